/-! ferries: the list of stops, the component's side -/
/-- a stop: its harbour, its zone, its way -/
abbrev SP : Type := Nat × OD × Nat
def knw (p : Nat) (E : OD) (n : Nat) (g : Nat → SP) : Prop := ∃ i, i < n ∧ (g i).1 = p ∧ inside E (g i).2.1
def StC (h : HH) (t : Nat) (e : SP) : Prop := ∃ z b d, hF h t = some (.inr (5, [.int (I32 e.1), .ref z, .int (I32 e.2.2)])) ∧ hB h ≤ t ∧ ZA h z b d ∧ rep 9999 d e.2.1
def StL (h : HH) (al ar cap n : Nat) (q : Nat → Option Nat) (g : Nat → SP) : Prop := AL h al ar cap n q ∧ ∀ i, i < n → ∃ t, q i = some t ∧ StC h t (g i)
def SW (n : Nat) (g : Nat → SP) : Prop := ∀ i, i < n → (g i).1 ≤ 5 ∧ EB (-160) 27 (g i).2.1 ∧ (g i).2.2 ≤ i
theorem knw_s {p : Nat} {E : OD} {k : Nat} {g : Nat → SP} {x w : Int32} (hf : fl x (knw p E k g)) (hw : fl w ((g k).1 = p ∧ inside E (g k).2.1)) : fl (x ||| w) (knw p E (k + 1) g) := fl_congr (fl_or hf hw) ⟨fun c => c.elim (fun ⟨i, hi, c⟩ => ⟨i, by omega, c⟩) (fun c => ⟨k, by omega, c⟩), fun ⟨i, hi, c⟩ => by
  by_cases e : i = k
  · subst e
    exact Or.inr c
  · exact Or.inl ⟨i, by omega, c⟩⟩
section FY10
variable {h h' : HH} {z b al ar cap n p t : Nat} {d : ZS} {E : OD} {q : Nat → Option Nat} {g : Nat → SP}
theorem StC.gr {c s : Nat} {e : SP} (o : OKH h) (gr : Gr (fun a => a < hSz h) c s h h') (C : StC h t e) : StC h' t e := by
  obtain ⟨z, b, d, C1, hb, Z, r⟩ := C
  exact ⟨z, b, d, by rw [gr.2.1 t (o.lt C1)]; exact C1, by rw [gr.b]; exact hb, Z.gr gr (o.lt Z.1) (o.lt Z.2.1), r⟩
theorem StL.gr {c s : Nat} (o : OKH h) (gr : Gr (fun a => a < hSz h) c s h h') (A : StL h al ar cap n q g) : StL h' al ar cap n q g := ⟨AL.keep (X := fun _ => False) (KeepX.gr o gr) id (fun _ _ => id) A.1, fun i hi => by
  obtain ⟨t, e, C⟩ := A.2 i hi
  exact ⟨t, e, C.gr o gr⟩⟩
/-- what an addition to the list leaves of the stops -/
theorem StC.put {c s : Nat} {e : SP} (o : OKH h) (A : AL h al ar cap n q) (gr : Gr (fun a => a < hSz h ∧ a ≠ al ∧ (a ≠ ar ∨ cap = 0)) c s h h') (C : StC h t e) : StC h' t e := by
  obtain ⟨z, b, d, C1, hb, Z, r⟩ := C
  obtain ⟨⟨mc, CA⟩, _, R, _⟩ := A
  have na : ∀ a e, hF h a = some e → kd e = (0, 5) ∨ kd e = (0, 3) ∨ kd e = (1, 16) → a < hSz h ∧ a ≠ al ∧ (a ≠ ar ∨ cap = 0) := fun a e ha hk => by
    refine ⟨o.lt ha, fun w => ?_, Or.inl (fun w => ?_)⟩
    · rw [w, CA] at ha
      cases ha
      rcases hk with hk | hk | hk <;> cases hk
    · rw [w, R] at ha
      cases ha
      rcases hk with hk | hk | hk <;> cases hk
  exact ⟨z, b, d, by rw [gr.2.1 t (na _ _ C1 (Or.inl rfl))]; exact C1, by rw [gr.b]; exact hb, Z.gr gr (na _ _ Z.1 (Or.inr (Or.inl rfl))) (na _ _ Z.2.1 (Or.inr (Or.inr rfl))), r⟩
theorem f_isKnown (A : StL h al ar cap n q g) (W : SW n g) (hn : n ≤ 200) (Z : ZA h z b d) (rd : rep 9999 d E) (hp : p ≤ 5) : ∃ v, F_X2_isKnown (I32 p) (some z) (some al) h = some v ∧ fl v (knw p E n g) := by
  have L : ∃ v, lp (fun y => F_X2_isKnown_B5 (I32 p) (some z) (some al) y.1 y.2 h) 100000 ((0 : Int32), (0 : Int32)) = some v ∧ fl v (knw p E n g) := by
    refine lp_inv0 (fun k y => y.2 = I32 k ∧ fl y.1 (knw p E k g)) n (fun k hk y hy => ?_) (fun y hy => ?_) ⟨rfl, Or.inr ⟨rfl, fun q => q.elim fun i w => absurd w.1 (Nat.not_lt_zero i)⟩⟩ (by omega)
    · obtain ⟨x, i⟩ := y
      obtain ⟨rfl, hf⟩ := hy
      have hf : fl x (knw p E k g) := hf
      obtain ⟨t, qt, zz, bb, dd, C, hb, Zt, rt⟩ := A.2 k hk
      have hW := (W k hk).1
      show ∃ z', F_X2_isKnown_B5 (I32 p) (some z) (some al) x (I32 k) h = some (.inl z') ∧ _
      unfold F_X2_isKnown_B5
      rw [A.1.size.1, bind_some9, A.1.size.2, bind_some9, if_neg (fun c => by rw [i32le (by omega) (by omega)] at c; omega), bind_some9, A.1.get hk (by omega), bind_some9, qt, v_castO C, bind_some9, v_getI C rfl, bind_some9]
      by_cases e : (g k).1 = p
      · obtain ⟨v, ev, fv⟩ := z_isInside Z Zt rd rt
        rw [if_pos (by rw [e]), bind_some9, A.1.get hk (by omega), bind_some9, qt, v_castO C, bind_some9, v_getR C rfl, bind_some9, v_isO Z.1, bind_some9, ev, bind_some9, i32s k (by omega), fl_id fv]
        exact ⟨_, rfl, rfl, knw_s hf (fl_congr fv ⟨fun w => ⟨e, w⟩, fun w => w.2⟩)⟩
      · rw [if_neg (fun c => e (i32inj (by omega) (by omega) c)), i32s k (by omega)]
        exact ⟨_, rfl, rfl, knw_s hf (Or.inr ⟨rfl, fun w => e w.1⟩)⟩
    · obtain ⟨x, i⟩ := y
      obtain ⟨rfl, hf⟩ := hy
      refine ⟨x, ?_, hf⟩
      show F_X2_isKnown_B5 (I32 p) (some z) (some al) x (I32 n) h = _
      unfold F_X2_isKnown_B5
      rw [A.1.size.1, bind_some9, A.1.size.2, bind_some9, if_pos (Int32.le_refl _)]
  obtain ⟨v, ev, fv⟩ := L
  refine ⟨v, ?_, fv⟩
  unfold F_X2_isKnown
  rw [ev, bind_some9, fl_okZ fv, bind_some9]
end FY10
