/-! texts: an order, both sides -/
theorem pb2_eta (X : Option (Int32 × MS)) : pb2 X (fun v h => some (v, h)) = X := by
  cases X with
  | none => rfl
  | some p => rfl
section TX5
variable {h h0 h' : HH} {S S0 S' : MS} {B r tr na len p n k w c0 s0 t : Nat} {bg rs cs mn lt : Int32} {nm : Nat → Int32}
theorem n_done {Bx : OD} (hW : wL lt = some w) (o : OKH h) (R : DRn na n h t (S.1 0)) (G : GoodS (S.1 0)) (E : hF h na = some (.inl (0, 3, .inl nm))) (hb : rep 100000 (sub (S.1 1) 0) Bx) (h23 : S.2.1 23 = lt) (hd : ∀ j, j < w → S.2.1 (24 + j) = nm j) (m : Rm 20 300 h) : NOp na n h t S (F_X1_done (some t) lt (some na) h) (P_X4_doesOrder S) := by
  obtain ⟨_, _, _, _, C, _⟩ := id R
  have p23 : pgI S 23 = some lt := by
    unfold pgI
    rw [h23]
  unfold wL at hW
  unfold P_X4_doesOrder
  rw [p23, bind_some9]
  by_cases c1 : lt = 100
  · rw [if_pos c1] at hW
    cases hW
    rw [c1, dn_100 C.1 E (by decide), if_pos rfl, show pgI S 24 = some (nm 0) from by unfold pgI; rw [hd 0 (by decide)], bind_some9, show pgI S 25 = some (nm 1) from by unfold pgI; rw [hd 1 (by decide)], bind_some9, show pgI S 26 = some (nm 2) from by unfold pgI; rw [hd 2 (by decide)], bind_some9, pb2_eta]
    exact n_tells _ _ _ o R G m
  · rw [if_neg c1] at hW
    rw [if_neg c1]
    by_cases c2 : lt = 109 ∨ lt = 108 ∨ lt = 114
    · rw [if_pos c2] at hW
      cases hW
      have e24 : pgI S 24 = some (nm 0) := by unfold pgI; rw [hd 0 (by decide)]
      have e25 : pgI S 25 = some (nm 1) := by unfold pgI; rw [hd 1 (by decide)]
      rcases c2 with c | c | c
      · rw [c, dn_109 C.1 E (by decide), if_neg (by decide), if_neg (by decide), if_pos rfl, e24, bind_some9, e25, bind_some9, pb2_eta]
        exact n_tells _ _ _ o R G m
      · rw [c, dn_108 C.1 E (by decide), if_neg (by decide), if_pos rfl, e24, bind_some9, e25, bind_some9, pb2_eta]
        exact n_tells _ _ _ o R G m
      · rw [c, dn_114 C.1 E (by decide), if_neg (by decide), if_neg (by decide), if_neg (by decide), if_pos rfl, e24, bind_some9, e25, bind_some9, pb2_eta]
        exact n_resets _ _ o R G m
    · rw [if_neg c2] at hW
      by_cases c3 : lt = 102
      · rw [if_pos c3] at hW
        cases hW
        rw [c3, dn_102 C.1 E (by decide), if_pos rfl, show pgI S 24 = some (nm 0) from by unfold pgI; rw [hd 0 (by decide)], bind_some9, pb2_eta]
        exact n_frees _ o R G hb m
      · rw [if_neg c3] at hW
        by_cases c4 : lt = 119 ∨ lt = 116
        · rw [if_pos c4] at hW
          cases hW
          rcases c4 with c | c
          · rw [c, dn_119 C.1 E (by decide), if_neg (by decide), if_neg (by decide), if_neg (by decide), if_neg (by decide), if_pos rfl, pb2_eta]
            exact n_delays o R G m
          · rw [c, dn_116 C.1 E (by decide), if_neg (by decide), if_neg (by decide), if_neg (by decide), if_neg (by decide), if_neg (by decide), pb2_eta]
            exact n_tightens o R G hb m
        · rw [if_neg c4] at hW
          cases hW
theorem StB.gr {c s : Nat} (o : OKH h0) (g : Gr (fun a => a < hSz h0) c s h0 h) (st : StB h0) : StB h := by
  obtain ⟨⟨v5, s1, s2⟩, ⟨v6, s3, s4⟩⟩ := st
  have kp : ∀ a e, hF h0 a = some e → hF h a = some e := fun a e ha => by rw [g.2.1 a (o.lt ha)]; exact ha
  have e := hSa_of g.1
  exact ⟨⟨v5, by rw [e]; exact kp _ _ s1, kp _ _ s2⟩, ⟨v6, by rw [e]; exact kp _ _ s3, kp _ _ s4⟩⟩
theorem StB.gn (R : Rd h r tr na B lt bg rs cs mn nm) (g : GN r na h h') (st : StB h) : StB h' := by
  obtain ⟨⟨v5, s1, s2⟩, ⟨v6, s3, s4⟩⟩ := st
  have kp : ∀ a e, hF h a = some e → kd e ≠ (0, 6) → kd e ≠ (1, 3) → hF h' a = some e := fun a e ha k1 k2 => by
    rw [g.2.1 a ⟨fun w => ?_, fun w => ?_⟩]
    · exact ha
    · rw [w, R.1] at ha
      cases ha
      exact k1 rfl
    · rw [w, R.2.1] at ha
      cases ha
      exact k2 rfl
  have e := hSa_of g.1
  exact ⟨⟨v5, by rw [e]; exact kp _ _ s1 (fun w => by cases w) (fun w => by cases w), kp _ _ s2 (fun w => by cases w) (fun w => by cases w)⟩, ⟨v6, by rw [e]; exact kp _ _ s3 (fun w => by cases w) (fun w => by cases w), kp _ _ s4 (fun w => by cases w) (fun w => by cases w)⟩⟩
theorem TC.gr {c s : Nat} (o : OKH h0) (g : Gr (fun a => a < hSz h0) c s h0 h) (e6 : S.1 6 = S0.1 6) (e7 : S.2.1 7 = S0.2.1 7) (T : TC h0 B S0 len) : TC h B S len := by
  obtain ⟨dk, kv, hi, tx, va, cap, ml, b, C, t1, t2, t3, t4, t5, t6, t7, t8, t9⟩ := T
  have kp : ∀ a e, hF h0 a = some e → hF h a = some e := fun a e ha => by rw [g.2.1 a (o.lt ha)]; exact ha
  exact ⟨dk, kv, hi, tx, va, cap, ml, b, kp _ _ C, kp _ _ t1, kp _ _ t2, by rw [g.b]; exact t3, by rw [g.b]; exact t4, t5, t6, t7, e7.trans t8, by rw [e6]; exact t9⟩
theorem mlr_or (x : Int32) : (∀ i, i < 3 → mlrB i ≠ x) ↔ ¬ (x = 109 ∨ x = 108 ∨ x = 114) := ⟨fun q w => by
  rcases w with w | w | w
  · exact q 0 (by decide) (by rw [w]; rfl)
  · exact q 1 (by decide) (by rw [w]; rfl)
  · exact q 2 (by decide) (by rw [w]; rfl), fun q i hi e => by
  have : i = 0 ∨ i = 1 ∨ i = 2 := by omega
  rcases this with rfl | rfl | rfl
  · exact q (Or.inl e.symm)
  · exact q (Or.inr (Or.inl e.symm))
  · exact q (Or.inr (Or.inr e.symm))⟩
theorem wt_or (x : Int32) : (∀ i, i < 2 → wtB i ≠ x) ↔ ¬ (x = 119 ∨ x = 116) := ⟨fun q w => by
  rcases w with w | w
  · exact q 0 (by decide) (by rw [w]; rfl)
  · exact q 1 (by decide) (by rw [w]; rfl), fun q i hi e => by
  have : i = 0 ∨ i = 1 := by omega
  rcases this with rfl | rfl
  · exact q (Or.inl e.symm)
  · exact q (Or.inr e.symm)⟩
def wI : Option Nat → Int32
  | none => -1
  | some w => I32 w
theorem f_one (st : StB h) (T : TC h B S len) (R : Rd h r tr na B (I32 p) bg rs cs mn nm) (hp : p < len) : F_X8_one r h = F_X8_one_T62 r (S.1 6 p) (wI (wL (S.1 6 p))) h := by
  obtain ⟨dk, kv, hi, tx, va, cap, ml, b, C, T⟩ := T
  obtain ⟨⟨v5, s1, s2⟩, ⟨v6, s3, s4⟩⟩ := st
  obtain ⟨u1, u2, u3⟩ := T.2.2.2.2.2.2.2.2 p hp
  obtain ⟨n, n1, _, en⟩ := chr_of u2 u3
  have l60 := T.2.2.2.2.1
  obtain ⟨r1, e1, q1⟩ := sx_idx (L := 3) s1 s2 (by decide) (by decide) n1
  obtain ⟨r2, e2, q2⟩ := sx_idx (L := 2) s3 s4 (by decide) (by decide) n1
  rw [mlr_or] at q1
  rw [wt_or] at q2
  have i5 : isO h 11 (some (hSa h 5)) = some (hSa h 5) := v_isO s1
  have i6 : isO h 11 (some (hSa h 6)) = some (hSa h 6) := v_isO s3
  unfold F_X8_one wL
  rw [v_getR R.1 rfl, bind_some9, v_getR C rfl, bind_some9, v_getI R.1 rfl, bind_some9, v_isO T.1, bind_some9, tx_at T hp, bind_some9, en]
  by_cases c1 : I32 n = 100
  · rw [if_pos c1, if_pos c1]
    rfl
  · rw [if_neg c1, if_neg c1, i5, bind_some9, e1, bind_some9]
    by_cases c2 : I32 n = 109 ∨ I32 n = 108 ∨ I32 n = 114
    · rw [if_neg (fun w => q1.mp w c2), if_pos c2]
      rfl
    · rw [if_pos (q1.mpr c2), if_neg c2]
      by_cases c3 : I32 n = 102
      · rw [if_pos c3, if_pos c3]
        rfl
      · rw [if_neg c3, if_neg c3, i6, bind_some9, e2, bind_some9]
        by_cases c4 : I32 n = 119 ∨ I32 n = 116
        · rw [if_neg (fun w => q2.mp w c4), if_pos c4]
          rfl
        · rw [if_pos (q2.mpr c4), if_neg c4]
          rfl
/-- how far both are in the text -/
def RJ (h0 : HH) (S0 : MS) (B r tr na c0 s0 k : Nat) (h : HH) (S : MS) (p : Nat) (bg rs cs mn : Int32) (nm : Nat → Int32) : Prop := Gr (fun a => a < hSz h0) (c0 + 20 * k) (s0 + 200 * k) h0 h ∧ Rd h r tr na B (I32 p) bg rs cs mn nm ∧ (rs = 0 → DRn na (hSz h0) h tr (S.1 0) ∧ GoodS (S.1 0)) ∧ (hSz h0 ≤ r ∧ hSz h0 ≤ na) ∧ (∀ K, K ≠ 0 → K ≠ 9 → K ≠ 10 → S.1 K = S0.1 K) ∧ (∀ K, K < 20 → S.2.1 K = S0.2.1 K) ∧ S.2.1 20 = I32 p ∧ S.2.1 27 = rs ∧ (rs ≠ 0 → S.2.1 28 = cs ∧ S.2.1 21 = bg)
theorem t49_bad (x y : Int32) (h22 : S.2.1 22 = 0) : P_X4_doesAll_T49 x y S = some (.inl (x, setI (setI S 27 1) 28 (S.2.1 20 - S.2.1 21))) := by
  unfold P_X4_doesAll_T49 pgI
  rw [h22, bind_some9, if_pos rfl, bind_some9, if_pos rfl, show piI S 27 (1 : Int32) = some (setI S 27 1) from rfl, bind_some9, bind_some9, setI_ne _ _ (by decide), h22, if_pos rfl, bind_some9, bind_some9, setI_ne _ _ (by decide), setI_ne _ _ (by decide)]
  rfl
theorem t49_ok (x y : Int32) (h22 : S.2.1 22 = 1) (nf : noF y) : P_X4_doesAll_T49 x y S = some (.inl (x + 1, S)) := by
  unfold P_X4_doesAll_T49 pgI
  rw [h22, bind_some9, if_neg (by decide), if_neg nf.1, if_neg nf.2]
theorem t49_11 (x : Int32) (h22 : S.2.1 22 = 1) : P_X4_doesAll_T49 x (-11) S = some (.inl (x, setI (setI S 27 2) 28 1)) := by
  unfold P_X4_doesAll_T49 pgI
  rw [h22, bind_some9, if_neg (show ¬ (1 : Int32) = 0 by decide), if_pos rfl, bind_some9, if_neg (show ¬ (1 : Int32) = 0 by decide), show piI S 27 (2 : Int32) = some (setI S 27 2) from rfl, bind_some9, bind_some9, setI_ne _ _ (by decide), h22, if_neg (show ¬ (1 : Int32) = 0 by decide)]
  rfl
theorem t49_12 (x : Int32) (h22 : S.2.1 22 = 1) : P_X4_doesAll_T49 x (-12) S = some (.inl (x, setI (setI S 27 2) 28 2)) := by
  unfold P_X4_doesAll_T49 pgI
  rw [h22, bind_some9, if_neg (show ¬ (1 : Int32) = 0 by decide), if_neg (show ¬ (-12 : Int32) = -11 by decide), if_pos rfl, bind_some9, if_neg (show ¬ (1 : Int32) = 0 by decide), show piI S 27 (2 : Int32) = some (setI S 27 2) from rfl, bind_some9, bind_some9, setI_ne _ _ (by decide), h22, if_neg (show ¬ (1 : Int32) = 0 by decide)]
  rfl
end TX5
