/-! simple queries -/
section Q2
variable {B L b : Nat} {xs : Nat → Int32} {h h' : HH} {S S' : MS}
theorem QO.bad1 {α : Type} {e2 : String} {ok2 : Prop} {P : α → Prop} (I : LW B L b xs h S) : QO "java/lang/IllegalArgumentException" e2 ok2 h (hskip h 6) S (setI S 8 1) (.inl (hSz h, "java/lang/IllegalArgumentException") : (Nat × String) ⊕ α) P := ⟨exG I, SMi S _, Or.inl ⟨setI_get _ _ _, _, rfl⟩⟩
theorem QO.ok {α : Type} {e1 e2 : String} {ok2 : Prop} {P : α → Prop} {v : α} (g : Gr (fun a => a < hSz h) 50000 228000 h h') (sm : SM S S') (h8 : S'.2.1 8 = 0) (p : P v) : QO e1 e2 ok2 h h' S S' (.inr v : (Nat × String) ⊕ α) P := ⟨g, sm, Or.inr (Or.inr ⟨h8, _, rfl, p⟩)⟩
theorem QO.bad2 {α : Type} {e1 e2 : String} {P : α → Prop} {q : Nat} (g : Gr (fun a => a < hSz h) 50000 228000 h h') (sm : SM S S') (h8 : S'.2.1 8 = 2) : QO e1 e2 True h h' S S' (.inl (q, e2) : (Nat × String) ⊕ α) P := ⟨g, sm, Or.inr (Or.inl ⟨True.intro, h8, _, rfl⟩)⟩
theorem g0 (I : LW B L b xs h S) : Gr (fun a => a < hSz h) 50000 228000 h h := (Gr.rf I.2.1).mono (by decide) (by decide)
theorem q_tightened (a1 a2 : Int32) (I : LW B L b xs h S) (m : Rm 50000 228000 h) : ∃ res h' r S', F_X1_tightened B a1 a2 h = some (res, h') ∧ P_X4_tightened a1 a2 S = some (r, S') ∧ QO "java/lang/IllegalArgumentException" "java/util/NoSuchElementException" True h h' S S' res (fun v => v = r) := by
  obtain ⟨dk, kv, hi, tx, st, al, sh, z0, C, D, _, s1, s2, s3, G⟩ := I.2.2.2.2.1.parts
  have f := arePair_fl a1 a2
  unfold F_X1_tightened P_X4_tightened
  rw [arePair_in]
  by_cases p : isP a1 a2
  · obtain ⟨d1, r1, g1, Z1, hc⟩ := t_one I (m.mono (by decide) (by decide))
    obtain ⟨v, t9, ev, fv, rt⟩ := m_ready (S := setI S 8 0) G.1 G.2.1
    rw [arg_t f p, thr_r, asks_t f p, pb2_s, if_neg (fun z => (fl_0 f).mp z p), v_isO C, bind_some9, ev, pb2_s]
    have sm : SM S (setA (setI S 8 0) 9 t9) := (SMi S _).tr (SM.a9 _ _)
    obtain ⟨i, j, hi', hj, hij, rfl, rfl⟩ := p
    rcases hc with ⟨hn, e⟩ | ⟨hn, e, g2⟩
    · rw [e, thr_r, if_neg (fun z => (fl_0 fv).mp z hn), v_isO Z1.1, bind_some9, z_at hi' hj Z1, bind_some9]
      have ri : rd (setA (setI S 8 0) 9 t9) 9 (((4 : Int32) * I32 i) + I32 j) = some (t9 (4 * i + j)) := by
        rw [rd_i (show ix _ (4 * i + j) (mlen 9) from ix4 hi' hj), setA_get]
      unfold P_X4_bound
      rw [ri, bind_some9]
      have m1 : Rm 1 6 (mkZ h d1) := (m.gr g1 (by decide) (by decide)).mono (by decide) (by decide)
      rcases rep2 (r1 (4 * i + j) (by omega)) (rt (4 * i + j) (by omega)) with ⟨q1, q2⟩ | ⟨q1, q2, q3⟩
      · rw [q1, q2, there_f m1, thr_l, if_pos rfl, m_fails, pb2_s, pb2_s]
        exact ⟨_, _, _, _, rfl, rfl, QO.bad2 ((g1.tr ((Gr.skip (P := fun a => a < hSz (mkZ h d1)) g1.ok 6 (Nat.lt_irrefl _)).sub (fun a (q : a < hSz h) => Nat.lt_of_lt_of_le q g1.2.2.2.1))).mono (by decide) (by decide)) (sm.tr (SMi _ _)) (setI_get _ _ _)⟩
      · rw [there_t q1, thr_r, if_neg q2, bind_some9, pb2_s]
        exact ⟨_, _, _, _, rfl, rfl, QO.ok (g1.mono (by decide) (by decide)) sm (setI_get _ _ _) q3⟩
    · rw [e, thr_l, if_pos ((fl_0 fv).mpr hn), m_fails, pb2_s]
      exact ⟨_, _, _, _, rfl, rfl, QO.bad2 (g2.mono (by decide) (by decide)) (sm.tr (SMi _ _)) (setI_get _ _ _)⟩
  · rw [arg_f f p (m.mono (by decide) (by decide)), thr_l, asks_f f p, pb2_s, if_pos ((fl_0 f).mpr p)]
    exact ⟨_, _, _, _, rfl, rfl, QO.bad1 I⟩
theorem q_leastOf (a1 : Int32) (I : LW B L b xs h S) (m : Rm 50000 228000 h) : ∃ res h' r S', F_X1_leastOf B a1 h = some (res, h') ∧ P_X4_leastOf a1 S = some (r, S') ∧ QO "java/lang/IllegalArgumentException" "java/util/NoSuchElementException" True h h' S S' res (fun v => v = r) := by
  obtain ⟨dk, kv, hi, tx, st, al, sh, z0, C, D, _, s1, s2, s3, G⟩ := I.2.2.2.2.1.parts
  have f := isClock_fl a1
  unfold F_X1_leastOf P_X4_leastOf
  rw [isClock_in]
  by_cases p : isC 2 a1
  · obtain ⟨d1, r1, g1, Z1, hc⟩ := t_one I (m.mono (by decide) (by decide))
    obtain ⟨v, t9, ev, fv, rt⟩ := m_ready (S := setI S 8 0) G.1 G.2.1
    rw [arg_t f p, thr_r, asks_t f p, pb2_s, if_neg (fun z => (fl_0 f).mp z p), v_isO C, bind_some9, ev, pb2_s]
    have sm : SM S (setA (setI S 8 0) 9 t9) := (SMi S _).tr (SM.a9 _ _)
    obtain ⟨c, hc2, rfl⟩ := p
    rcases hc with ⟨hn, e⟩ | ⟨hn, e, g2⟩
    · rw [e, thr_r, if_neg (fun z => (fl_0 fv).mp z hn), v_isO Z1.1, bind_some9, show F_X3_at (hSz h) (3 : Int32) (I32 c) (mkZ h d1) = some (d1 (4 * 3 + c)) from z_at (i := 3) (by decide) (by omega) Z1, bind_some9, m_least (by omega), bind_some9]
      refine ⟨_, _, _, _, rfl, rfl, QO.ok (g1.mono (by decide) (by decide)) sm (setI_get _ _ _) ?_⟩
      obtain ⟨t, ht, _⟩ := (G.2.1.Tt hn).2.2.1 c (by omega)
      have q1 := r1 (12 + c) (by omega)
      have q2 := rt (12 + c) (by omega)
      rw [ht] at q1 q2
      show -(d1 (4 * 3 + c)) = -(t9 (12 + c))
      rw [show 4 * 3 + c = 12 + c from rfl, Int32.toInt_inj.mp (q1.1.trans q2.1.symm)]
    · rw [e, thr_l, if_pos ((fl_0 fv).mpr hn), m_fails, pb2_s]
      exact ⟨_, _, _, _, rfl, rfl, QO.bad2 (g2.mono (by decide) (by decide)) (sm.tr (SMi _ _)) (setI_get _ _ _)⟩
  · rw [arg_f f p (m.mono (by decide) (by decide)), thr_l, asks_f f p, pb2_s, if_pos ((fl_0 f).mpr p)]
    exact ⟨_, _, _, _, rfl, rfl, QO.bad1 I⟩
theorem q_mostOf (a1 : Int32) (I : LW B L b xs h S) (m : Rm 50000 228000 h) : ∃ res h' r S', F_X1_mostOf B a1 h = some (res, h') ∧ P_X4_mostOf a1 S = some (r, S') ∧ QO "java/lang/IllegalArgumentException" "java/util/NoSuchElementException" True h h' S S' res (fun v => v = r) := by
  obtain ⟨dk, kv, hi, tx, st, al, sh, z0, C, D, _, s1, s2, s3, G⟩ := I.2.2.2.2.1.parts
  have f := isClock_fl a1
  unfold F_X1_mostOf P_X4_mostOf
  rw [isClock_in]
  by_cases p : isC 2 a1
  · obtain ⟨d1, r1, g1, Z1, hc⟩ := t_one I (m.mono (by decide) (by decide))
    obtain ⟨v, t9, ev, fv, rt⟩ := m_ready (S := setI S 8 0) G.1 G.2.1
    rw [arg_t f p, thr_r, asks_t f p, pb2_s, if_neg (fun z => (fl_0 f).mp z p), v_isO C, bind_some9, ev, pb2_s]
    have sm : SM S (setA (setI S 8 0) 9 t9) := (SMi S _).tr (SM.a9 _ _)
    obtain ⟨c, hc2, rfl⟩ := p
    rcases hc with ⟨hn, e⟩ | ⟨hn, e, g2⟩
    · rw [e, thr_r, if_neg (fun z => (fl_0 fv).mp z hn), v_isO Z1.1, bind_some9, show F_X3_at (hSz h) (I32 c) (3 : Int32) (mkZ h d1) = some (d1 (4 * c + 3)) from z_at (j := 3) (by omega) (by decide) Z1, bind_some9, m_most (by omega), bind_some9]
      have m1 : Rm 1 6 (mkZ h d1) := (m.gr g1 (by decide) (by decide)).mono (by decide) (by decide)
      rcases rep2 (r1 (4 * c + 3) (by omega)) (rt (4 * c + 3) (by omega)) with ⟨q1, q2⟩ | ⟨q1, q2, q3⟩
      · rw [q1, q2, there_f m1, thr_l, if_pos rfl, m_fails, pb2_s]
        exact ⟨_, _, _, _, rfl, rfl, QO.bad2 ((g1.tr ((Gr.skip (P := fun a => a < hSz (mkZ h d1)) g1.ok 6 (Nat.lt_irrefl _)).sub (fun a (q : a < hSz h) => Nat.lt_of_lt_of_le q g1.2.2.2.1))).mono (by decide) (by decide)) (sm.tr (SMi _ _)) (setI_get _ _ _)⟩
      · rw [there_t q1, thr_r, if_neg q2, bind_some9]
        exact ⟨_, _, _, _, rfl, rfl, QO.ok (g1.mono (by decide) (by decide)) sm (setI_get _ _ _) q3⟩
    · rw [e, thr_l, if_pos ((fl_0 fv).mpr hn), m_fails, pb2_s]
      exact ⟨_, _, _, _, rfl, rfl, QO.bad2 (g2.mono (by decide) (by decide)) (sm.tr (SMi _ _)) (setI_get _ _ _)⟩
  · rw [arg_f f p (m.mono (by decide) (by decide)), thr_l, asks_f f p, pb2_s, if_pos ((fl_0 f).mpr p)]
    exact ⟨_, _, _, _, rfl, rfl, QO.bad1 I⟩
theorem q_isShelfEmpty (a1 : Int32) (I : LW B L b xs h S) (m : Rm 50000 228000 h) : ∃ res h' r S', F_X1_isShelfEmpty B a1 h = some (res, h') ∧ P_X4_isShelfEmpty a1 S = some (r, S') ∧ QO "java/lang/IllegalArgumentException" "" False h h' S S' res (fun v => v = r) := by
  obtain ⟨dk, kv, hi, tx, st, al, sh, z0, C, D, _, s1, ⟨g, H, _, _, hs⟩, s3, G⟩ := I.2.2.2.2.1.parts
  have f := isSlot_fl a1
  unfold F_X1_isShelfEmpty P_X4_isShelfEmpty
  rw [isShelf_in]
  by_cases p : isC 3 a1
  · rw [arg_t f p, thr_r, asks_t f p, pb2_s, if_neg (fun z => (fl_0 f).mp z p)]
    obtain ⟨k, hk, rfl⟩ := p
    rw [v_getR C rfl, bind_some9, v_getR D.1 rfl, bind_some9, v_aldR H (ix_of k 4 (by omega) (by decide)), bind_some9, m_hasZone _ hk, bind_some9]
    refine ⟨_, _, _, _, rfl, rfl, QO.ok (g0 I) (SMi S _) (setI_get _ _ _) ?_⟩
    show (if g k = none then (1 : Int32) else (0 : Int32)) = if (if S.1 0 (80 + k) = (1 : Int32) then (1 : Int32) else (0 : Int32)) = 0 then (1 : Int32) else (0 : Int32)
    rcases hs k (by omega) with ⟨q1, q2⟩ | ⟨z, q1, q2, _⟩
    · rw [q1, q2]
      decide
    · rw [q1, q2, if_neg (by simp)]
      decide
  · rw [arg_f f p (m.mono (by decide) (by decide)), thr_l, asks_f f p, pb2_s, if_pos ((fl_0 f).mpr p)]
    exact ⟨_, _, _, _, rfl, rfl, QO.bad1 I⟩
theorem ix84 : ∀ i, i < 6 → ∀ c, c < 3 → ix (((84 : Int32) + ((3 : Int32) * I32 i)) + I32 c) (84 + (3 * i + c)) 194 := by
  intro i hi c hc
  have h1 : ∀ i, i < 6 → ∀ c, c < 3 → ¬ (((84 : Int32) + ((3 : Int32) * I32 i)) + I32 c) < 0 ∧ (((84 : Int32) + ((3 : Int32) * I32 i)) + I32 c).toNatClampNeg = 84 + (3 * i + c) := by decide
  exact ⟨(h1 i hi c hc).1, (h1 i hi c hc).2, by omega⟩
theorem q_stayOf (a1 a2 : Int32) (I : LW B L b xs h S) (m : Rm 50000 228000 h) : ∃ res h' r S', F_X1_stayOf B a1 a2 h = some (res, h') ∧ P_X4_stayOf a1 a2 S = some (r, S') ∧ QO "java/lang/IllegalArgumentException" "" False h h' S S' res (fun v => v = r) := by
  obtain ⟨dk, kv, hi, tx, st, al, sh, z0, C, D, _, ⟨ff, H, _, _, hs⟩, s2, s3, G⟩ := I.2.2.2.2.1.parts
  have f : fl (if (F_X4_isHarbour a1) = 0 then (0 : Int32) else F_X4_isClock a2) (isC 5 a1 ∧ isC 2 a2) := fl_if0 (isHarbour_fl a1) (fun _ => isClock_fl a2)
  unfold F_X1_stayOf P_X4_stayOf
  rw [isClock_in, isHarbour_in, fl_id (isClock_fl a2)]
  by_cases p : isC 5 a1 ∧ isC 2 a2
  · rw [arg_t f p, thr_r, asks_t f p, pb2_s, if_neg (fun z => (fl_0 f).mp z p)]
    obtain ⟨⟨i, hi', rfl⟩, ⟨c, hc, rfl⟩⟩ := p
    unfold F_X2_stay P_X4_stay
    rw [v_getR C rfl, bind_some9, v_isO D.1, bind_some9, v_getR D.1 rfl, bind_some9, v_aldI H (ix3 i (by omega) c (by omega)), bind_some9, bind_some9, rd_i (show ix _ (84 + (3 * i + c)) (mlen 0) from ix84 i (by omega) c (by omega)), bind_some9, bind_some9]
    exact ⟨_, _, _, _, rfl, rfl, QO.ok (g0 I) (SMi S _) (setI_get _ _ _) (hs _ (by omega))⟩
  · rw [arg_f f p (m.mono (by decide) (by decide)), thr_l, asks_f f p, pb2_s, if_pos ((fl_0 f).mpr p)]
    exact ⟨_, _, _, _, rfl, rfl, QO.bad1 I⟩
/-- a line by its number -/
theorem t_line (a1 : Int32) (I : LW B L b xs h S) (m : Rm 10 60 h) : ∃ N, N ≤ 10 ∧ S.1 0 102 = I32 N ∧ ((¬ isL N a1 ∧ F_X1_lineAt B a1 h = some (.inl (hSz h, "java/lang/IllegalArgumentException"), hskip h 6)) ∨ ∃ l ln le mo, l < N ∧ a1 = I32 l ∧ LR h (S.1 0) l ln le mo ∧ F_X1_lineAt B a1 h = some (.inr (some ln), h)) := by
  obtain ⟨dk, kv, hi, tx, st, al, sh, z0, C, D, _, s1, s2, ⟨N, ar, cap, q, la, le, mo, hN, hN10, A, hl, _⟩, G⟩ := I.2.2.2.2.1.parts
  refine ⟨N, hN10, hN, ?_⟩
  have f := isL_fl hN10 a1
  unfold F_X1_lineAt
  rw [v_getR C rfl, bind_some9, v_isO D.1, bind_some9, isLine_a D A, bind_some9]
  by_cases p : isL N a1
  · obtain ⟨l, hlN, rfl⟩ := id p
    obtain ⟨ql, R⟩ := hl l hlN
    refine Or.inr ⟨l, _, _, _, hlN, rfl, R, ?_⟩
    rw [arg_t f p, thr_r, v_getR C rfl, bind_some9, v_getR D.1 rfl, bind_some9, A.size.1, bind_some9, A.get hlN (by omega), bind_some9, ql, v_castO R.1, bind_some9]
  · refine Or.inl ⟨p, ?_⟩
    rw [arg_f f p (m.mono (by decide) (by decide)), thr_l]
theorem q_fromOf (a1 : Int32) (I : LW B L b xs h S) (m : Rm 50000 228000 h) : ∃ res h' r S', F_X1_fromOf B a1 h = some (res, h') ∧ P_X4_fromOf a1 S = some (r, S') ∧ QO "java/lang/IllegalArgumentException" "" False h h' S S' res (fun v => v = r) := by
  obtain ⟨dk, kv, hi, tx, C, _⟩ := id I.2.2.2.2.1
  obtain ⟨N, hN10, hN, hc⟩ := t_line a1 I (m.mono (by decide) (by decide))
  have f := isL_fl hN10 a1
  unfold F_X1_fromOf P_X4_fromOf
  rw [v_isO C, bind_some9, m_isLine S hN, bind_some9]
  rcases hc with ⟨p, e⟩ | ⟨l, ln, le, mo, hl, rfl, R, e⟩
  · rw [e, thr_l, asks_f f p, pb2_s, if_pos ((fl_0 f).mpr p)]
    exact ⟨_, _, _, _, rfl, rfl, QO.bad1 I⟩
  · have p : isL N (I32 l) := ⟨l, hl, rfl⟩
    rw [e, thr_r, asks_t f p, pb2_s, if_neg (fun z => (fl_0 f).mp z p), v_getI R.1 rfl, bind_some9, show P_X4_line (I32 l) (0 : Int32) (setI S 8 0) = some (S.1 0 (103 + 9 * l + 0)) from m_line _ (k := 0) (by omega) (by decide), bind_some9]
    exact ⟨_, _, _, _, rfl, rfl, QO.ok (g0 I) (SMi S _) (setI_get _ _ _) rfl⟩
theorem q_toOf (a1 : Int32) (I : LW B L b xs h S) (m : Rm 50000 228000 h) : ∃ res h' r S', F_X1_toOf B a1 h = some (res, h') ∧ P_X4_toOf a1 S = some (r, S') ∧ QO "java/lang/IllegalArgumentException" "" False h h' S S' res (fun v => v = r) := by
  obtain ⟨dk, kv, hi, tx, C, _⟩ := id I.2.2.2.2.1
  obtain ⟨N, hN10, hN, hc⟩ := t_line a1 I (m.mono (by decide) (by decide))
  have f := isL_fl hN10 a1
  unfold F_X1_toOf P_X4_toOf
  rw [v_isO C, bind_some9, m_isLine S hN, bind_some9]
  rcases hc with ⟨p, e⟩ | ⟨l, ln, le, mo, hl, rfl, R, e⟩
  · rw [e, thr_l, asks_f f p, pb2_s, if_pos ((fl_0 f).mpr p)]
    exact ⟨_, _, _, _, rfl, rfl, QO.bad1 I⟩
  · have p : isL N (I32 l) := ⟨l, hl, rfl⟩
    rw [e, thr_r, asks_t f p, pb2_s, if_neg (fun z => (fl_0 f).mp z p), v_getI R.1 rfl, bind_some9, show P_X4_line (I32 l) (1 : Int32) (setI S 8 0) = some (S.1 0 (103 + 9 * l + 1)) from m_line _ (k := 1) (by omega) (by decide), bind_some9]
    exact ⟨_, _, _, _, rfl, rfl, QO.ok (g0 I) (SMi S _) (setI_get _ _ _) (by rw [show 103 + 9 * l + 1 = 104 + 9 * l by omega])⟩
theorem q_doesReset (a1 a2 : Int32) (I : LW B L b xs h S) (m : Rm 50000 228000 h) : ∃ res h' r S', F_X1_doesReset B a1 a2 h = some (res, h') ∧ P_X4_doesReset a1 a2 S = some (r, S') ∧ QO "java/lang/IllegalArgumentException" "" False h h' S S' res (fun v => v = r) := by
  obtain ⟨dk, kv, hi, tx, st, al, sh, z0, C, D, _, s1, s2, ⟨N, ar, cap, q, la, le, mo, hN, hN10, A, hl, _⟩, G⟩ := I.2.2.2.2.1.parts
  have f : fl (if (F_X4_in a1 0 (I32 N - (1 : Int32))) = 0 then (0 : Int32) else F_X4_isClock a2) (isL N a1 ∧ isC 2 a2) := fl_if0 (isL_fl hN10 a1) (fun _ => isClock_fl a2)
  unfold F_X1_doesReset P_X4_doesReset
  rw [v_getR C rfl, bind_some9, v_isO D.1, bind_some9, isLine_a D A, bind_some9, m_isLine S hN, bind_some9, isClock_in, fl_id (isClock_fl a2)]
  by_cases p : isL N a1 ∧ isC 2 a2
  · rw [arg_t f p, thr_r, asks_t f p, pb2_s, if_neg (fun z => (fl_0 f).mp z p)]
    obtain ⟨⟨l, hlN, rfl⟩, p2⟩ := p
    obtain ⟨ql, R⟩ := hl l hlN
    unfold F_X5_isReset
    rw [v_getR C rfl, bind_some9, v_getR D.1 rfl, bind_some9, A.size.1, bind_some9, A.get hlN (by omega), bind_some9, ql, v_castO R.1, bind_some9, v_isO R.1, bind_some9, v_getI R.1 rfl, bind_some9, bind_some9, show P_X4_line (I32 l) (8 : Int32) (setI S 8 0) = some (S.1 0 (103 + 9 * l + 8)) from m_line _ (k := 8) (by omega) (by decide), bind_some9, show 103 + 9 * l + 8 = 111 + 9 * l by omega]
    have ok : okZ (if ((S.1 0 (111 + 9 * l) >>> (a2 &&& 31)) &&& (1 : Int32)) = (1 : Int32) then (1 : Int32) else (0 : Int32)) = some () := by
      by_cases q : ((S.1 0 (111 + 9 * l) >>> (a2 &&& 31)) &&& (1 : Int32)) = (1 : Int32)
      · rw [if_pos q]
        rfl
      · rw [if_neg q]
        rfl
    rw [ok, bind_some9]
    exact ⟨_, _, _, _, rfl, rfl, QO.ok (g0 I) (SMi S _) (setI_get _ _ _) rfl⟩
  · rw [arg_f f p (m.mono (by decide) (by decide)), thr_l, asks_f f p, pb2_s, if_pos ((fl_0 f).mpr p)]
    exact ⟨_, _, _, _, rfl, rfl, QO.bad1 I⟩
theorem x_lines (I : LW B L b xs h S) : ∃ r S', F_X1_lines B h = some r ∧ P_X4_lines S = some (r, S') ∧ CX h B S' := by
  obtain ⟨dk, kv, hi, tx, st, al, sh, z0, C, D, _, s1, s2, ⟨N, ar, cap, q, la, le, mo, hN, hN10, A, hl, _⟩, G⟩ := I.2.2.2.2.1.parts
  refine ⟨I32 N, setI S 8 0, ?_, ?_, I.2.2.2.2.1.sm I.2.1 (SMi S _)⟩
  · unfold F_X1_lines
    rw [v_getR C rfl, bind_some9, v_getR D.1 rfl, bind_some9, A.size.1, bind_some9, A.size.2, bind_some9]
  · unfold P_X4_lines
    show Option.bind (some (setI S 8 0)) _ = _
    rw [bind_some9, rd_i (show ix (102 : Int32) 102 (mlen 0) from ⟨by decide, by decide, by decide⟩), bind_some9]
    show some (S.1 0 102, _) = _
    rw [hN]
theorem x_worked (I : LW B L b xs h S) : ∃ r S', F_X1_worked B h = some r ∧ P_X4_worked S = some (r, S') ∧ CX h B S' := by
  obtain ⟨dk, kv, hi, tx, st, al, sh, z0, C, D, _⟩ := I.2.2.2.2.1.parts
  refine ⟨S.1 0 193, setI S 8 0, ?_, ?_, I.2.2.2.2.1.sm I.2.1 (SMi S _)⟩
  · unfold F_X1_worked
    rw [v_getR C rfl, bind_some9, v_getI D.1 rfl, bind_some9]
  · unfold P_X4_worked
    show Option.bind (some (setI S 8 0)) _ = _
    rw [bind_some9, rd_i (show ix (193 : Int32) 193 (mlen 0) from ⟨by decide, by decide, by decide⟩), bind_some9]
    rfl
end Q2
