/-! one arm of the law: the ends -/
section LA4
variable {B L b : Nat} {xs : Nat → Int32} {h h1 : HH} {S S1 : MS} {k : Int32} {x : Int64}
theorem lg_self (y : Int64) : lg_cmp y y = 0 := by
  unfold lg_cmp
  rw [if_neg (by simp), if_pos rfl]
theorem v_aldJ {h : HH} {a j n : Nat} {f : Nat → Int64} {i : Int32} (q : hF h a = some (.inl (4, n, .inr (.inl f)))) (hi : ix i j n) : aldJ h 4 (some a) i = some (f j) := by
  unfold aldJ
  rw [v_aget q hi, ← hi.2.1]
theorem LW.ld (sc : hF h b = some (.inl (0, L, .inl xs))) {i j : Nat} (hi : i + 5 ≤ L) (hL : L ≤ 120) (hj : j < 5) : aldI h 0 (some b) (I32 i + I32 j) = some (xs (i + j)) := v_aldI sc (ix1 (by omega) hL (by omega))
theorem i5 {i : Nat} (hi : i + 5 ≤ L) (hL : L ≤ 120) : (I32 i + (5 : Int32)) = I32 (i + 5) := by
  show I32 i + I32 5 = _
  rw [i32add (by omega)]
theorem LW.m_at (I : LW B L b xs h S) : hF h (B + 11) = some (.inr (1, objM (adM B) S)) := by
  have e := I.2.2.2.2.2.1
  rw [e]
  exact hF_pu_m S
theorem LW.after (I : LW B L b xs h S) (X : XR B h h1 S1 k x) : ∃ H, H = pu (B + 11) (adM B) S1 h1 ∧ h1 = pu (B + 11) (adM B) S h1 ∧ WFM (B + 11) (adM B) h1 ∧ hF h1 b = some (.inl (0, L, .inl xs)) ∧ isO h1 1 (some (B + 11)) = some (B + 11) ∧ isO H 1 (some (B + 11)) = some (B + 11) ∧ F_X4_thrown (B + 11) H = some k ∧ (k = 0 → aldJ H 4 (some (B + 24)) (0 : Int32) = some x) ∧ LW B L b xs H S1 ∧ Gr (fun _ => False) 50000 228000 h H := by
  obtain ⟨g, kx, R, h8, g1, og, hv⟩ := X
  have I1 := I.step g kx R ⟨g1, og⟩
  have e1 : hB h1 = B := (hB_of g.1).trans I.1
  have hpu1 := pu_keep I.1 I.2.2.2.2.2.1 kx
  have W := WF e1
  have km := pu_KeepM e1 hpu1 S1
  refine ⟨_, rfl, hpu1, W, kx.2.1 _ _ I.2.2.2.2.2.2.2.1 (xw_ne (Or.inl rfl)), ?_, v_isO I1.m_at, ?_, fun q => ?_, I1, ?_⟩
  · have e := hF_pu_m (m := B + 11) (ad := adM B) (h := h1) S
    rw [← hpu1] at e
    exact v_isO e
  · rw [e_X4_thrown W, m_thrown, h8]
  · rw [v_aldJ (km.1.2.1 _ _ og (show ((5, 1) : Nat × Nat) ∉ MKl by decide)) (show ix (0 : Int32) 0 1 from ⟨by decide, by decide, by decide⟩), hv q]
  · exact ⟨g.1, fun a z => z.elim, I1.2.1, g.2.2.2⟩
theorem arm_tail {H : HH} {y : Int32} {X : Int64} (al : k = 0 → aldJ H 4 (some (B + 24)) (0 : Int32) = some X) : (if k = k then (if k = 0 then (Option.bind (aldJ H 4 (some (B + 24)) (0 : Int32)) fun v27 => if (lg_cmp v27 X) = 0 then (some (.inl (y, H)) : Option ((Int32 × HH) ⊕ HH)) else none) else some (.inl (y, H))) else none) = some (.inl (y, H)) := by
  rw [if_pos rfl]
  by_cases q : k = 0
  · rw [if_pos q, al q, bind_some9, lg_self, if_pos rfl]
  · rw [if_neg q]
def ArmOK (B L b : Nat) (xs : Nat → Int32) (h : HH) (i : Nat) (A : Option Nat → Option Nat → Option Nat → Option Nat → Int32 → HH → Option ((Int32 × HH) ⊕ HH)) : Prop := ∃ H S1, A (some b) (some B) (some (B + 11)) (some (B + 24)) (I32 i) h = some (.inl (I32 (i + 5), H)) ∧ LW B L b xs H S1 ∧ Gr (fun _ => False) 50000 228000 h H
/-- what a call without wrapper leaves, for the law -/
theorem LW.afterQ (I : LW B L b xs h S) (X : XQ B h h1 S1) : ∃ H, H = pu (B + 11) (adM B) S1 h1 ∧ h1 = pu (B + 11) (adM B) S h1 ∧ WFM (B + 11) (adM B) h1 ∧ isO h 0 (some B) = some B ∧ isO h1 1 (some (B + 11)) = some (B + 11) ∧ LW B L b xs H S1 ∧ Gr (fun _ => False) 50000 228000 h H := by
  obtain ⟨g, kx, R⟩ := X
  obtain ⟨g1, og⟩ := I.2.2.2.2.2.2.1
  have R0 := I.2.2.2.2.1
  obtain ⟨dk, kv, hi, tx, C, _⟩ := id R0
  have og1 : outA h1 B g1 := kx.2.1 _ _ og xc_out
  have X' : XR B h h1 S1 (S1.2.1 8) (g1 0) := ⟨g, ⟨kx.1, fun a ec ha hx => kx.2.1 a ec ha (fun z => hx (Or.inl z)), kx.2.2⟩, R, rfl, g1, og1, fun _ => rfl⟩
  obtain ⟨H, q1, q2, q3, q4, q5, q6, q7, q8, q9, q10⟩ := I.after X'
  exact ⟨H, q1, q2, q3, v_isO C, q5, q9, q10⟩
end LA4
