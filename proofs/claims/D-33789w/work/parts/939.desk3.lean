/-! the desk's acts, one by one -/
theorem otell_set {D : OD} {m : Nat} : ∀ x, oset D m (omin (D m) x) = oset D m (omin (D m) x) := fun _ => rfl
def otell (D : OD) (m : Nat) (b : Int) : OD := oset D m (omin (D m) (some b))
def oforget (D : OD) (i j : Nat) : OD := oset D (4 * i + j) (if i = 3 then some 0 else none)
theorem dg_ne {i j : Nat} (hi : i < 4) (hj : j < 4) (n : i ≠ j) {k : Nat} (hk : k < 4) : 5 * k ≠ 4 * i + j := by omega
theorem EC_tell {D : OD} (G : GZ D) {i j : Nat} (hi : i < 4) (hj : j < 4) (n : i ≠ j) {b : Int} (hb : -9 ≤ b ∧ b ≤ if i = 3 then 0 else 9) : EC (otell D (4 * i + j) b) := by
  have hb9 : -9 ≤ b ∧ b ≤ 9 := by
    by_cases e : i = 3
    · rw [if_pos e] at hb; omega
    · rw [if_neg e] at hb; exact hb
  refine ⟨fun k hk => ?_, fun q hq => ?_, ?_⟩
  · unfold otell oset
    rw [if_neg (dg_ne hi hj n hk)]
    exact G.1 k hk
  · unfold otell oset
    obtain ⟨t, e, h0⟩ := G.2.1 q hq
    by_cases em : 12 + q = 4 * i + j
    · have ei : i = 3 := by omega
      rw [if_pos ei] at hb
      rw [if_pos em, ← em, e]
      show ∃ s, some (if b < t then b else t) = some s ∧ s ≤ 0
      refine ⟨_, rfl, ?_⟩
      split <;> omega
    · rw [if_neg em]
      exact ⟨t, e, h0⟩
  · have h1 : bd (-70000) 3300 D := G.toEC.2.2
    refine bd_set h1 _ (fun t ht => ?_)
    rcases omin_some ht with e | e
    · exact h1 _ (by omega) t e
    · cases e
      omega
theorem EC_forget {D : OD} (G : GZ D) {i j : Nat} (hi : i < 4) (hj : j < 4) (n : i ≠ j) : EC (oforget D i j) := by
  refine ⟨fun k hk => ?_, fun q hq => ?_, ?_⟩
  · unfold oforget oset
    rw [if_neg (dg_ne hi hj n hk)]
    exact G.1 k hk
  · unfold oforget oset
    by_cases em : 12 + q = 4 * i + j
    · rw [if_pos em, if_pos (by omega)]
      exact ⟨0, rfl, by omega⟩
    · rw [if_neg em]
      exact G.2.1 q hq
  · refine bd_set G.toEC.2.2 _ (fun t ht => ?_)
    by_cases e : i = 3
    · rw [if_pos e] at ht
      cases ht
      omega
    · rw [if_neg e] at ht
      cases ht
def oplain : OD := fun m => if m / 4 = m % 4 ∨ m / 4 = 3 then some 0 else none
theorem EC_plain : EC oplain := by
  refine ⟨fun k hk => ?_, fun q hq => ?_, fun i hi t ht => ?_⟩
  · unfold oplain
    rw [(dg_div hk).1, (dg_div hk).2, if_pos (Or.inl rfl)]
  · unfold oplain
    rw [(zr_div hq).1, if_pos (Or.inr rfl)]
    exact ⟨0, rfl, by omega⟩
  · unfold oplain at ht
    split at ht
    · cases ht
      omega
    · cases ht
theorem thr_same {X : Option (((Nat × String) ⊕ Int32) × HH)} {res : (Nat × String) ⊕ Int32} {h' : HH} (e : X = some (res, h')) : thr X (fun q h6 => some ((.inl q : (Nat × String) ⊕ Int32), h6)) (fun v h6 => some ((.inr v : (Nat × String) ⊕ Int32), h6)) = some (res, h') := by
  rw [e]
  cases res <;> rfl
/-- the answer told otherwise -/
def reMap (f : Int32 → Int32) : (Nat × String) ⊕ Int32 → (Nat × String) ⊕ Int32
  | .inl q => .inl q
  | .inr v => .inr (f v)
theorem thr_map {X : Option (((Nat × String) ⊕ Int32) × HH)} {res : (Nat × String) ⊕ Int32} {h' : HH} (f : Int32 → Int32) (e : X = some (res, h')) : thr X (fun q h6 => some ((.inl q : (Nat × String) ⊕ Int32), h6)) (fun v h6 => some ((.inr (f v) : (Nat × String) ⊕ Int32), h6)) = some (reMap f res, h') := by
  rw [e]
  cases res <;> rfl
theorem DOut.map {h' : HH} {t st al sh : Nat} {w : Int32} {res : (Nat × String) ⊕ Int32} {x : Option (Int32 × OD)} (f : Int32 → Int32) (o : DOut h' t st al sh w res x) : DOut h' t st al sh w (reMap f res) (x.map fun q => (f q.1, q.2)) := by
  cases x with
  | none =>
    obtain ⟨a, e, b⟩ := o
    subst e
    exact ⟨a, rfl, b⟩
  | some q =>
    obtain ⟨e, r⟩ := o
    subst e
    exact ⟨rfl, r⟩
theorem b9 {a : Int32} {i : Nat} : (if I32 i = (3 : Int32) then (F_X4_in a (-9) 0) else (F_X4_in a (-9) 9)) = F_X4_in a (-9) (if I32 i = (3 : Int32) then 0 else 9) := by
  split <;> rfl
def tellArg (a1 a2 a3 : Int32) : Int32 := if F_X4_arePair a1 a2 = 0 then (0 : Int32) else F_X4_in a3 (-9) (if a1 = (3 : Int32) then 0 else 9)
def tellP (a1 a2 a3 : Int32) (i j : Nat) : Prop := i < 4 ∧ j < 4 ∧ i ≠ j ∧ a1 = I32 i ∧ a2 = I32 j ∧ -9 ≤ a3.toInt ∧ a3.toInt ≤ if i = 3 then 0 else 9
theorem tellArg_fl (a1 a2 a3 : Int32) : fl (tellArg a1 a2 a3) (∃ i j, tellP a1 a2 a3 i j) := by
  unfold tellArg
  refine fl_congr (fl_if0 (arePair_fl a1 a2) (fun _ => in_fl _ _ _)) ⟨fun ⟨⟨i, j, hi, hj, n, e1, e2⟩, h1, h2⟩ => ⟨i, j, hi, hj, n, e1, e2, h1, ?_⟩, fun ⟨i, j, hi, hj, n, e1, e2, h1, h2⟩ => ⟨⟨i, j, hi, hj, n, e1, e2⟩, h1, ?_⟩⟩
  · subst e1
    by_cases e : i = 3
    · subst e
      rw [if_pos rfl]
      rw [if_pos (show I32 3 = (3 : Int32) from rfl)] at h2
      exact h2
    · rw [if_neg e]
      have n3 : ¬ I32 i = (3 : Int32) := fun q => e (i32inj (by omega) (by decide) (show I32 i = I32 3 from q))
      rw [if_neg n3] at h2
      exact h2
  · subst e1
    by_cases e : i = 3
    · subst e
      rw [if_pos rfl] at h2
      rw [if_pos (show I32 3 = (3 : Int32) from rfl)]
      exact h2
    · rw [if_neg e] at h2
      have n3 : ¬ I32 i = (3 : Int32) := fun q => e (i32inj (by omega) (by decide) (show I32 i = I32 3 from q))
      rw [if_neg n3]
      exact h2
theorem tellArg_c (a1 a2 a3 : Int32) : (if (F_X1_arePair a1 a2) = 0 then (0 : Int32) else (if a1 = (3 : Int32) then (if (F_X1_isBetween (a3.toInt64) (-9 : Int64) (0 : Int64)) = 0 then (0 : Int32) else (1 : Int32)) else (if (F_X1_isBetween (a3.toInt64) (-9 : Int64) (9 : Int64)) = 0 then (0 : Int32) else (1 : Int32)))) = tellArg a1 a2 a3 := by
  unfold tellArg
  rw [arePair_in, show F_X1_isBetween (a3.toInt64) (-9 : Int64) (0 : Int64) = F_X4_in a3 (-9) 0 from between_in a3 (-9) 0, show F_X1_isBetween (a3.toInt64) (-9 : Int64) (9 : Int64) = F_X4_in a3 (-9) 9 from between_in a3 (-9) 9, fl_id (in_fl _ _ _), fl_id (in_fl _ _ _)]
  split
  · rfl
  · split <;> rfl
theorem rep1_int {N x : Int32} (hx : x.toInt < 9999) : rep1 N x (some x.toInt) := ⟨rfl, hx⟩
section AC
variable {h : HH} {t st al sh z0 b0 : Nat} {w : Int32} {d0 : ZS} {D : OD}
theorem not_lt_self {h : HH} : ¬ (fun a => a < hSz h) (hSz h) := Nat.lt_irrefl _
theorem gr_ref (o : OKH h) (k : Int32) : Gr (Pt h t) 1 7 h (hpush h (.inr (7, [.int k])) 7) := Gr.push o _ 7 (fun q => Nat.lt_irrefl _ q.1)
theorem a_tells (a1 a2 a3 : Int32) (o : OKH h) (C : DC h t st al sh z0 w) (Z0 : ZA h z0 b0 d0) (r0 : rep 9999 d0 D) (G : GZ D) (m : Rm 20 200 h) : ∃ res h', F_X2_tells t a1 a2 a3 h = some (res, h') ∧ Gr (Pt h t) 20 200 h h' ∧ ((¬ ∃ i j, tellP a1 a2 a3 i j) → Ref res h' 1) ∧ (∀ i j, tellP a1 a2 a3 i j → DOut h' t st al sh w res (sTake D (otell D (4 * i + j) a3.toInt))) := by
  unfold F_X2_tells
  rw [tellArg_c]
  rcases need_cases (k := 1) (tellArg_fl a1 a2 a3) o (m.mono (by decide) (by decide)) with ⟨n, e⟩ | ⟨⟨i, j, p⟩, e⟩
  · rw [e, thr_l]
    exact ⟨_, _, rfl, (gr_ref o 1).mono (by decide) (by decide), fun _ => ⟨_, rfl, hF_push_eq _ _ _⟩, fun i j q => absurd ⟨i, j, q⟩ n⟩
  · rw [e, thr_r]
    obtain ⟨hi, hj, nij, e1, e2, hb⟩ := id p
    subst e1
    subst e2
    have c1 : hF (hpush h (.inr (3, [.null])) 1) t = some (.inr (2, [.ref st, .ref al, .ref sh, .ref z0, .int w])) := by rw [hF_push_ne _ _ _ (o.ne C.1)]; exact C.1
    have g := mkZ_gr (P := fun a => a < hSz h) o d0 (fun a q => q)
    have Z1 := mkZ_ZA o d0
    have g2 := mkZ_gr (P := fun a => a < hSz h) o (upd d0 (4 * i + j) (gmin (d0 (4 * i + j)) a3)) (fun a q => q)
    have hb9 : a3.toInt < 9999 := by
      have := hb.2
      split at this <;> omega
    rw [v_newO (m.mono (by decide) (by decide)), bind_some9, v_getR c1 rfl, bind_some9, show nnl (some (hSz h)) = some (hSz h) from rfl, bind_some9, z_init2 o Z0 (m.mono (by decide) (by decide)), bind_some9, v_isO Z1.1, bind_some9, z_tells hi hj Z1, bind_some9, mkZ_pz, v_isO (C.gr g2 (o.lt C.1)).1, bind_some9]
    obtain ⟨res, h', e3, g3, ho⟩ := tk_mk o C Z0 r0 (rep_set r0 (4 * i + j) (rep1_cmin n9 (r0 _ (by omega)) (rep1_int hb9))) (EC_tell G hi hj nij hb) (m.mono (by decide) (by decide))
    refine ⟨res, h', thr_same e3, g3.mono (by decide) (by decide), fun q => absurd ⟨i, j, p⟩ q, fun i' j' p' => ?_⟩
    obtain ⟨hi', hj', _, e1', e2', _⟩ := p'
    have q1 := i32inj (by omega) (by omega) e1'
    have q2 := i32inj (by omega) (by omega) e2'
    subst q1
    subst q2
    exact ho
theorem plain_v (i : Nat) (hi : i < 4) : F_X3_plain (I32 i) = if i = 3 then (0 : Int32) else 9999 := by
  rcases or4 hi with rfl | rfl | rfl | rfl <;> rfl
theorem rep1_plain (i : Nat) (hi : i < 4) : rep1 9999 (F_X3_plain (I32 i)) (if i = 3 then some 0 else none) := by
  rw [plain_v i hi]
  by_cases e : i = 3
  · rw [if_pos e, if_pos e]
    exact ⟨rfl, by decide⟩
  · rw [if_neg e, if_neg e]
    rfl
theorem a_forgets (a1 a2 : Int32) (o : OKH h) (C : DC h t st al sh z0 w) (Z0 : ZA h z0 b0 d0) (r0 : rep 9999 d0 D) (G : GZ D) (m : Rm 20 200 h) : ∃ res h', F_X2_forgets t a1 a2 h = some (res, h') ∧ Gr (Pt h t) 20 200 h h' ∧ (¬ isP a1 a2 → Ref res h' 1) ∧ (∀ i j, i < 4 → j < 4 → i ≠ j → a1 = I32 i → a2 = I32 j → DOut h' t st al sh w res (sTake D (oforget D i j))) := by
  unfold F_X2_forgets
  rw [arePair_in]
  rcases need_cases (k := 1) (arePair_fl a1 a2) o (m.mono (by decide) (by decide)) with ⟨n, e⟩ | ⟨p, e⟩
  · rw [e, thr_l]
    exact ⟨_, _, rfl, (gr_ref o 1).mono (by decide) (by decide), fun _ => ⟨_, rfl, hF_push_eq _ _ _⟩, fun i j a b c e f => absurd ⟨i, j, a, b, c, e, f⟩ n⟩
  · rw [e, thr_r]
    obtain ⟨i, j, hi, hj, nij, e1, e2⟩ := id p
    subst e1
    subst e2
    have c1 : hF (hpush h (.inr (3, [.null])) 1) t = some (.inr (2, [.ref st, .ref al, .ref sh, .ref z0, .int w])) := by rw [hF_push_ne _ _ _ (o.ne C.1)]; exact C.1
    have Z1 := mkZ_ZA o d0
    have g2 := mkZ_gr (P := fun a => a < hSz h) o (upd d0 (4 * i + j) (F_X3_plain (I32 i))) (fun a q => q)
    rw [v_newO (m.mono (by decide) (by decide)), bind_some9, v_getR c1 rfl, bind_some9, show nnl (some (hSz h)) = some (hSz h) from rfl, bind_some9, z_init2 o Z0 (m.mono (by decide) (by decide)), bind_some9, v_isO Z1.1, bind_some9, z_sets hi hj Z1, bind_some9, mkZ_pz, v_isO (C.gr g2 (o.lt C.1)).1, bind_some9]
    obtain ⟨res, h', e3, g3, ho⟩ := tk_mk o C Z0 r0 (rep_set r0 (4 * i + j) (rep1_plain i hi)) (EC_forget G hi hj nij) (m.mono (by decide) (by decide))
    refine ⟨res, h', thr_same e3, g3.mono (by decide) (by decide), fun q => absurd p q, fun i' j' hi' hj' _ e1' e2' => ?_⟩
    have q1 := i32inj (by omega) (by omega) e1'
    have q2 := i32inj (by omega) (by omega) e2'
    subst q1
    subst q2
    exact ho
theorem tt_row (G : GZ D) (hn : nn (otl D 4)) (r0 : rep 9999 d0 D) : Tt (otl D 4) ∧ rep 9999 (gtl 9999 d0 4) (otl D 4) ∧ bd (-70000) 9000 (otl D 4) := ⟨G.Tt hn, G.rep n9 r0, (G.Tt hn).2.2.2.2.mono (by decide) (by decide)⟩
theorem a_tightens (o : OKH h) (C : DC h t st al sh z0 w) (Z0 : ZA h z0 b0 d0) (r0 : rep 9999 d0 D) (G : GZ D) (m : Rm 20 200 h) : ∃ res h', F_X2_tightens t h = some (res, h') ∧ Gr (Pt h t) 20 200 h h' ∧ DOut h' t st al sh w res (if bq (nn (otl D 4)) then sTake D (otl D 4) else none) := by
  unfold F_X2_tightens
  rw [v_isO C.1, bind_some9]
  rcases readied_a o C Z0 r0 G (m.mono (by decide) (by decide)) with ⟨hn, e⟩ | ⟨hn, q, h', e, rf, g⟩
  · rw [e, thr_r]
    obtain ⟨T, rT, bT⟩ := tt_row G hn r0
    have g2 := mkZ_gr (P := fun a => a < hSz h) o (gtl 9999 d0 4) (fun a q => q)
    rw [v_isO (C.gr g2 (o.lt C.1)).1, bind_some9]
    obtain ⟨res, h', e3, g3, ho⟩ := tk_mk o C Z0 r0 rT T.EC (m.mono (by decide) (by decide))
    refine ⟨res, h', thr_same e3, g3.mono (by decide) (by decide), ?_⟩
    rw [if_pos (bq_t.mpr hn)]
    exact ho
  · rw [e, thr_l]
    refine ⟨_, _, rfl, g.mono (by decide) (by decide), ?_⟩
    rw [bq_f.mpr hn]
    exact rf
def rstArg (a1 a2 : Int32) : Int32 := if F_X4_isClock a1 = 0 then (0 : Int32) else F_X4_in a2 0 9
theorem rstArg_c (a1 a2 : Int32) : (if (F_X1_isClock a1) = 0 then (0 : Int32) else (if (F_X1_isBetween (a2.toInt64) (0 : Int64) (9 : Int64)) = 0 then (0 : Int32) else (1 : Int32))) = rstArg a1 a2 := by
  unfold rstArg
  rw [isClock_in, show F_X1_isBetween (a2.toInt64) (0 : Int64) (9 : Int64) = F_X4_in a2 0 9 from between_in a2 0 9, fl_id (in_fl _ _ _)]
theorem rstArg_fl (a1 a2 : Int32) : fl (rstArg a1 a2) (isC 2 a1 ∧ 0 ≤ a2.toInt ∧ a2.toInt ≤ 9) := fl_if0 (isClock_fl a1) (fun _ => in_fl a2 0 9)
theorem a_resets (a1 a2 : Int32) (o : OKH h) (C : DC h t st al sh z0 w) (Z0 : ZA h z0 b0 d0) (r0 : rep 9999 d0 D) (G : GZ D) (m : Rm 20 200 h) : ∃ res h', F_X2_resets t a1 a2 h = some (res, h') ∧ Gr (Pt h t) 20 200 h h' ∧ (¬ (isC 2 a1 ∧ 0 ≤ a2.toInt ∧ a2.toInt ≤ 9) → Ref res h' 1) ∧ (∀ c, c ≤ 2 → a1 = I32 c → 0 ≤ a2.toInt ∧ a2.toInt ≤ 9 → DOut h' t st al sh (w + 1) res (sWork D (oreset (otl D 4) c a2.toInt) (fun _ => hadv (otl D 4 (4 * c + 3))))) := by
  unfold F_X2_resets
  rw [rstArg_c]
  rcases need_cases (k := 1) (rstArg_fl a1 a2) o (m.mono (by decide) (by decide)) with ⟨n, e⟩ | ⟨p, e⟩
  · rw [e, thr_l]
    exact ⟨_, _, rfl, (gr_ref o 1).mono (by decide) (by decide), fun _ => ⟨_, rfl, hF_push_eq _ _ _⟩, fun c a b q => absurd ⟨⟨c, a, b⟩, q⟩ n⟩
  · rw [e, thr_r, v_isO C.1, bind_some9]
    obtain ⟨⟨c, hc, e1⟩, hb⟩ := id p
    subst e1
    rcases readied_a o C Z0 r0 G (m.mono (by decide) (by decide)) with ⟨hn, e⟩ | ⟨hn, q, h', e, rf, g⟩
    · rw [e, thr_r]
      obtain ⟨T, rT, bT⟩ := tt_row G hn r0
      have Z1 := mkZ_ZA o (gtl 9999 d0 4)
      obtain ⟨d', e2, r2⟩ := z_resets (c := c) (by omega) (v := a2) rfl hb Z1 rT bT
      have g2 := mkZ_gr (P := fun a => a < hSz h) o d' (fun a q => q)
      rw [v_isO Z1.1, bind_some9, c3, z_at (j := 3) (by omega) (by decide) Z1, bind_some9, bind_some9, e2, bind_some9, mkZ_pz, v_isO (C.gr g2 (o.lt C.1)).1, bind_some9]
      obtain ⟨res, h', e3, g3, ho⟩ := tw_mk o C Z0 r0 r2 (EC_reset T (by omega) hb) (nn_reset T (by omega) _) (m.mono (by decide) (by decide))
      refine ⟨_, h', thr_map (fun _ => if gtl 9999 d0 4 (4 * c + 3) = (9999 : Int32) then (31 : Int32) else gtl 9999 d0 4 (4 * c + 3)) e3, g3.mono (by decide) (by decide), fun q => absurd p q, fun c' hc' e1' _ => ?_⟩
      have q1 := i32inj (by omega) (by omega) e1'
      subst q1
      rw [sWork_t hn, rep1_had n9 (rT (4 * c + 3) (by omega))]
      exact ho.map _
    · rw [e, thr_l]
      refine ⟨_, _, rfl, g.mono (by decide) (by decide), fun q => absurd p q, fun c' hc' e1' _ => ?_⟩
      rw [sWork_f hn]
      exact rf
theorem a_delays (o : OKH h) (C : DC h t st al sh z0 w) (Z0 : ZA h z0 b0 d0) (r0 : rep 9999 d0 D) (G : GZ D) (m : Rm 20 200 h) : ∃ res h', F_X2_delays t h = some (res, h') ∧ Gr (Pt h t) 20 200 h h' ∧ DOut h' t st al sh (w + 1) res (sWork D (odelay (otl D 4)) (fun _ => ocnt (otl D 4) 3)) := by
  unfold F_X2_delays
  rw [v_isO C.1, bind_some9]
  rcases readied_a o C Z0 r0 G (m.mono (by decide) (by decide)) with ⟨hn, e⟩ | ⟨hn, q, h', e, rf, g⟩
  · rw [e, thr_r]
    obtain ⟨T, rT, bT⟩ := tt_row G hn r0
    have Z1 := mkZ_ZA o (gtl 9999 d0 4)
    obtain ⟨d', e2, r2⟩ := z_delays Z1 rT
    have g2 := mkZ_gr (P := fun a => a < hSz h) o d' (fun a q => q)
    rw [v_isO Z1.1, bind_some9, e2, b2_s, mkZ_pz, v_isO (C.gr g2 (o.lt C.1)).1, bind_some9]
    obtain ⟨res, h', e3, g3, ho⟩ := tw_mk o C Z0 r0 r2 (EC_delay T) (nn_delay T) (m.mono (by decide) (by decide))
    refine ⟨_, h', thr_map (fun _ => ocnt (otl D 4) 3) e3, g3.mono (by decide) (by decide), ?_⟩
    rw [sWork_t hn]
    exact ho.map _
  · rw [e, thr_l]
    refine ⟨_, _, rfl, g.mono (by decide) (by decide), ?_⟩
    rw [sWork_f hn]
    exact rf
theorem a_goesBack (o : OKH h) (C : DC h t st al sh z0 w) (Z0 : ZA h z0 b0 d0) (r0 : rep 9999 d0 D) (G : GZ D) (m : Rm 20 200 h) : ∃ res h', F_X2_goesBack t h = some (res, h') ∧ Gr (Pt h t) 20 200 h h' ∧ DOut h' t st al sh (w + 1) res (sWork D (oback (otl D 4)) (fun v => v)) := by
  unfold F_X2_goesBack
  rw [v_isO C.1, bind_some9]
  rcases readied_a o C Z0 r0 G (m.mono (by decide) (by decide)) with ⟨hn, e⟩ | ⟨hn, q, h', e, rf, g⟩
  · rw [e, thr_r]
    obtain ⟨T, rT, bT⟩ := tt_row G hn r0
    have Z1 := mkZ_ZA o (gtl 9999 d0 4)
    obtain ⟨d', e2, r2⟩ := z_goesBack Z1 rT
    have g2 := mkZ_gr (P := fun a => a < hSz h) o d' (fun a q => q)
    rw [v_isO Z1.1, bind_some9, e2, bind_some9, mkZ_pz, v_isO (C.gr g2 (o.lt C.1)).1, bind_some9]
    obtain ⟨res, h', e3, g3, ho⟩ := tw_mk o C Z0 r0 r2 (EC_back T) (nn_back T) (m.mono (by decide) (by decide))
    refine ⟨_, h', thr_map (fun v => v) e3, g3.mono (by decide) (by decide), ?_⟩
    rw [sWork_t hn]
    exact ho.map _
  · rw [e, thr_l]
    refine ⟨_, _, rfl, g.mono (by decide) (by decide), ?_⟩
    rw [sWork_f hn]
    exact rf
theorem a_frees (a1 : Int32) (o : OKH h) (C : DC h t st al sh z0 w) (Z0 : ZA h z0 b0 d0) (r0 : rep 9999 d0 D) (G : GZ D) (m : Rm 20 200 h) : ∃ res h', F_X2_frees t a1 h = some (res, h') ∧ Gr (Pt h t) 20 200 h h' ∧ (¬ isC 2 a1 → Ref res h' 1) ∧ (∀ c, c ≤ 2 → a1 = I32 c → DOut h' t st al sh (w + 1) res (sWork D (ofree (otl D 4) c) (fun v => v))) := by
  unfold F_X2_frees
  rw [isClock_in]
  rcases need_cases (k := 1) (isClock_fl a1) o (m.mono (by decide) (by decide)) with ⟨n, e⟩ | ⟨p, e⟩
  · rw [e, thr_l]
    exact ⟨_, _, rfl, (gr_ref o 1).mono (by decide) (by decide), fun _ => ⟨_, rfl, hF_push_eq _ _ _⟩, fun c a b => absurd ⟨c, a, b⟩ n⟩
  · rw [e, thr_r, v_isO C.1, bind_some9]
    obtain ⟨c, hc, e1⟩ := id p
    subst e1
    rcases readied_a o C Z0 r0 G (m.mono (by decide) (by decide)) with ⟨hn, e⟩ | ⟨hn, q, h', e, rf, g⟩
    · rw [e, thr_r]
      obtain ⟨T, rT, bT⟩ := tt_row G hn r0
      have Z1 := mkZ_ZA o (gtl 9999 d0 4)
      obtain ⟨d', e2, r2⟩ := z_frees (c := c) (by omega) Z1 rT
      have g2 := mkZ_gr (P := fun a => a < hSz h) o d' (fun a q => q)
      rw [v_isO Z1.1, bind_some9, e2, bind_some9, mkZ_pz, v_isO (C.gr g2 (o.lt C.1)).1, bind_some9]
      obtain ⟨res, h', e3, g3, ho⟩ := tw_mk o C Z0 r0 r2 (EC_free T (by omega)) (nn_free T (by omega)) (m.mono (by decide) (by decide))
      refine ⟨_, h', thr_map (fun v => v) e3, g3.mono (by decide) (by decide), fun q => absurd p q, fun c' hc' e1' => ?_⟩
      have q1 := i32inj (by omega) (by omega) e1'
      subst q1
      rw [sWork_t hn]
      exact ho.map _
    · rw [e, thr_l]
      refine ⟨_, _, rfl, g.mono (by decide) (by decide), fun q => absurd p q, fun c' hc' e1' => ?_⟩
      rw [sWork_f hn]
      exact rf
end AC
