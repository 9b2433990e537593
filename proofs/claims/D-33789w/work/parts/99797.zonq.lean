/-! ferries by zones: the queries -/
theorem MSt.i8 {S : MS} {n : Nat} {g : Nat → SP} (M : MSt S n g) (x : Int32) : MSt (setI S 8 x) n g := ⟨by rw [setI_ne _ _ (by decide)]; exact M.1, M.2.1, M.2.2⟩
/-- harbours as a set -/
def orS (g : Nat → SP) : Nat → Int32
  | 0 => 0
  | j + 1 => orS g j ||| ((1 : Int32) <<< (I32 (g j).1 &&& 31))
def cnS (a : Int32) (g : Nat → SP) : Nat → Int32
  | 0 => 0
  | j + 1 => cnS a g j + (if I32 (g j).1 = a then (1 : Int32) else (0 : Int32))
theorem i32p (m : Nat) (h : m < 20000) : I32 (m + 1) - (1 : Int32) = I32 m := by
  rw [← i32s m h, Int32.add_sub_cancel]
section ZQ
variable {B L b : Nat} {xs : Nat → Int32} {h : HH} {S : MS}
theorem t_all (I : LW B L b xs h S) (m : Rm 50000 228000 h) {S1 : MS} (e0 : S1.1 0 = S.1 0) : ∃ h' S2 n g, Gr (fun a => a < hSz h) 3000 60000 h h' ∧ P_X4_spreads S1 = some ((if 120 < n then (0 : Int32) else (1 : Int32)), S2) ∧ FK S1 S2 ∧ ((120 < n ∧ F_X1_allStops B h = some (.inl (hSz h', "java/util/NoSuchElementException"), hskip h' 6) ∧ Gr (fun a => a < hSz h) 50000 228000 h (hskip h' 6)) ∨ (n ≤ 120 ∧ MSt S2 n g ∧ SW n g ∧ (∀ i j, i ≤ j → j < n → (g i).2.2 ≤ (g j).2.2) ∧ ∃ al ar cap q, F_X1_allStops B h = some (.inr (some al), h') ∧ StL h' al ar cap n q g)) := by
  obtain ⟨e, o, z, st, R, _⟩ := id I
  obtain ⟨dk, kv, hi, tx, st, alD, sh, z0, C, D, Z, ⟨f, Hs, _, _, fs⟩, s2, ⟨N, ar, cap, q, la, le, mo, h102, hN, A, LL, _⟩, G⟩ := R.parts
  obtain ⟨N', hN', e102, hL, _⟩ := G.2.2.2.2
  have eN : N' = N := i32inj (by omega) (by omega) (e102.symm.trans h102)
  subst eN
  have DD : DW h dk (S.1 0) N' st alD sh z0 (S.1 0 193) f ar cap q la le mo := ⟨D.1, Hs, fs, G.2.2.2.1, hN, A, fun l hl => ⟨(LL l hl).1, (LL l hl).2, hL l hl⟩⟩
  obtain ⟨h', n, g, oe, gr, W, n130, srt, hc⟩ := f_gathered o z DD (m.mono (by decide) (by decide))
  obtain ⟨S2, n2, g2, es, M, W2, k, hR⟩ := m_spreads (S := S1) (s := S.1 0) e0 G hN h102 hL
  have gs : Gr (fun a => a < hSz h) 50000 228000 h (hskip h' 6) := (gr.tr ((Gr.skip (P := fun a => a < hSz h') gr.ok 6 (Nat.lt_irrefl _)).sub (fun a (q : a < hSz h) => Nat.lt_of_lt_of_le q gr.2.2.2.1))).mono (by decide) (by decide)
  have m1 : Rm 1 6 h' := (m.gr gr (by decide) (by decide)).mono (by decide) (by decide)
  have bad : F_X2_gathered dk h = some (none, h') → F_X1_allStops B h = some (.inl (hSz h', "java/util/NoSuchElementException"), hskip h' 6) := fun eg => by
    have en : F_X1_needSuch (if (none : Option Nat) = none then (0 : Int32) else (1 : Int32)) h' = some (.inl (hSz h', "java/util/NoSuchElementException"), hskip h' 6) := such_f (if_pos rfl) m1
    unfold F_X1_allStops
    rw [v_getR C rfl, bind_some9, v_isO D.1, bind_some9, eg, b2_s, en, thr_l]
  have good : ∀ al : Nat, F_X2_gathered dk h = some (some al, h') → F_X1_allStops B h = some (.inr (some al), h') := fun al eg => by
    have en : F_X1_needSuch (if (some al : Option Nat) = none then (0 : Int32) else (1 : Int32)) h' = some (.inr (), h') := such_t (by rw [if_neg (fun q => by cases q)]; decide)
    unfold F_X1_allStops
    rw [v_getR C rfl, bind_some9, v_isO D.1, bind_some9, eg, b2_s, en, thr_r]
  rcases hR with hR | ⟨q1, q2⟩
  · rw [oe] at hR
    cases hR
    refine ⟨h', S2, n, g, gr, es, k, ?_⟩
    rcases hc with ⟨c, eg⟩ | ⟨c, al, ar', cap', q', eg, St⟩
    · exact Or.inl ⟨c, bad eg, gs⟩
    · exact Or.inr ⟨c, M, W, srt, al, ar', cap', q', good al eg, St⟩
  · rw [oe] at q2
    have q2 : 120 < n := q2
    refine ⟨h', S2, n, g, gr, by rw [es, if_pos q1, if_pos q2], k, ?_⟩
    rcases hc with ⟨c, eg⟩ | ⟨c, al, ar', cap', q', eg, St⟩
    · exact Or.inl ⟨c, bad eg, gs⟩
    · omega
theorem q_reachable (I : LW B L b xs h S) (m : Rm 50000 228000 h) : ∃ res h' r S', F_X1_reachable B h = some (res, h') ∧ P_X4_reachable S = some (r, S') ∧ QO "java/util/NoSuchElementException" "" False h h' S S' res (fun v => v = r) := by
  obtain ⟨dk, kv, hi, tx, C, _⟩ := id I.2.2.2.2.1
  obtain ⟨h', S2, n, g, gr, es, k, hc⟩ := t_all I m (S1 := S) rfl
  unfold F_X1_reachable P_X4_reachable
  rw [v_isO C, bind_some9, es, pb2_s]
  rcases hc with ⟨c, e, gs⟩ | ⟨c, M, W, srt, al, ar, cap, q, e, A⟩
  · rw [e, thr_l, if_pos c, asks_f (P := False) (Or.inr ⟨rfl, id⟩) id, pb2_s, if_pos rfl]
    exact ⟨_, _, _, _, rfl, rfl, gs, k.sm.tr (SMi _ _), Or.inl ⟨setI_get _ _ _, _, rfl⟩⟩
  · have M8 := M.i8 0
    have L1 : lp (fun y => F_X1_reachable_B9 B (some al) y.1 y.2 h') 100000 ((0 : Int32), (0 : Int32)) = some (orS g n) := lp_for0 (B := fun y => F_X1_reachable_B9 B (some al) y.1 y.2 h') (fun j => (orS g j, I32 j)) n (fun j hj => by
      obtain ⟨t, tj, zz, bb, dd, Ct, _⟩ := A.2 j hj
      show F_X1_reachable_B9 B (some al) (orS g j) (I32 j) h' = _
      unfold F_X1_reachable_B9
      rw [A.1.size.1, bind_some9, A.1.size.2, bind_some9, if_neg (fun c => by rw [i32le (by omega) (by omega)] at c; omega), bind_some9, A.1.get hj (by omega), bind_some9, tj, v_castO Ct, bind_some9, v_getI Ct rfl, bind_some9, i32s j (by omega)]
      rfl) (by
      show F_X1_reachable_B9 B (some al) (orS g n) (I32 n) h' = _
      unfold F_X1_reachable_B9
      rw [A.1.size.1, bind_some9, A.1.size.2, bind_some9, if_pos (Int32.le_refl _)]) 100000 (by omega)
    have L2 : lp (fun y => P_X4_reachable_B17 y.1 y.2 (setI S2 8 0)) 100000 ((0 : Int32), (0 : Int32)) = some (orS g n) := lp_for0 (B := fun y => P_X4_reachable_B17 y.1 y.2 (setI S2 8 0)) (fun j => (orS g j, I32 j)) n (fun j hj => by
      obtain ⟨q1, _⟩ := M8.2.2 j hj
      show P_X4_reachable_B17 (orS g j) (I32 j) _ = _
      unfold P_X4_reachable_B17 pgI
      rw [M8.1, bind_some9, if_neg (fun c => by rw [i32le (by omega) (by omega)] at c; omega), rd_i (show ix (I32 j) j (mlen 14) from ix_of j 121 (by omega) (by decide)), bind_some9, q1, i32s j (by omega)]
      rfl) (by
      show P_X4_reachable_B17 (orS g n) (I32 n) _ = _
      unfold P_X4_reachable_B17 pgI
      rw [M8.1, bind_some9, if_pos (Int32.le_refl _)]) 100000 (by omega)
    rw [e, thr_r, if_neg (by omega), asks_t (P := True) (Or.inl ⟨rfl, True.intro⟩) True.intro, pb2_s, if_neg (by decide), L1, bind_some9, L2, bind_some9]
    exact ⟨_, _, _, _, rfl, rfl, QO.ok (gr.mono (by decide) (by decide)) (k.sm.tr (SMi _ _)) (setI_get _ _ _) rfl⟩
theorem q_zones (I : LW B L b xs h S) (m : Rm 50000 228000 h) : ∃ res h' r S', F_X1_zones B h = some (res, h') ∧ P_X4_zones S = some (r, S') ∧ QO "java/util/NoSuchElementException" "" False h h' S S' res (fun v => v = r) := by
  obtain ⟨dk, kv, hi, tx, C, _⟩ := id I.2.2.2.2.1
  obtain ⟨h', S2, n, g, gr, es, k, hc⟩ := t_all I m (S1 := S) rfl
  unfold F_X1_zones P_X4_zones
  rw [v_isO C, bind_some9, es, pb2_s]
  rcases hc with ⟨c, e, gs⟩ | ⟨c, M, W, srt, al, ar, cap, q, e, A⟩
  · rw [e, thr_l, if_pos c, asks_f (P := False) (Or.inr ⟨rfl, id⟩) id, pb2_s, if_pos rfl]
    exact ⟨_, _, _, _, rfl, rfl, gs, k.sm.tr (SMi _ _), Or.inl ⟨setI_get _ _ _, _, rfl⟩⟩
  · have M8 := M.i8 0
    unfold pgI
    rw [e, thr_r, if_neg (by omega), asks_t (P := True) (Or.inl ⟨rfl, True.intro⟩) True.intro, pb2_s, if_neg (by decide), A.1.size.1, bind_some9, A.1.size.2, bind_some9, M8.1, bind_some9]
    exact ⟨_, _, _, _, rfl, rfl, QO.ok (gr.mono (by decide) (by decide)) (k.sm.tr (SMi _ _)) (setI_get _ _ _) rfl⟩
/-- a query that asks for a harbour, and for the stops -/
theorem t_zon (p : Nat) (hp : p ≤ 5) (I : LW B L b xs h S) (m : Rm 50000 228000 h) : ∃ h' S2 n g, Gr (fun a => a < hSz h) 3000 60000 h h' ∧ SM S S2 ∧ ((S2.2.1 8 = 2 ∧ P_X4_asksZones (I32 p) S = some (0, S2) ∧ F_X1_allStops B h = some (.inl (hSz h', "java/util/NoSuchElementException"), hskip h' 6) ∧ Gr (fun a => a < hSz h) 50000 228000 h (hskip h' 6)) ∨ (S2.2.1 8 = 0 ∧ P_X4_asksZones (I32 p) S = some (1, S2) ∧ n ≤ 120 ∧ MSt S2 n g ∧ SW n g ∧ (∀ i j, i ≤ j → j < n → (g i).2.2 ≤ (g j).2.2) ∧ ∃ al ar cap q, F_X1_allStops B h = some (.inr (some al), h') ∧ StL h' al ar cap n q g)) := by
  obtain ⟨h', S2, n, g, gr, es, k, hc⟩ := t_all I m (S1 := setI S 8 0) rfl
  have f := isHarbour_fl (I32 p)
  rcases hc with ⟨c, e, gs⟩ | ⟨c, M, W, srt, al, ar, cap, q, e, A⟩
  · refine ⟨h', setI S2 8 2, n, g, gr, (SMi S 0).tr (k.sm.tr (SMi _ _)), Or.inl ⟨setI_get _ _ _, ?_, e, gs⟩⟩
    unfold P_X4_asksZones
    rw [asks_t f ⟨p, hp, rfl⟩, pb2_s, if_neg (fun z => (fl_0 f).mp z ⟨p, hp, rfl⟩), es, pb2_s, if_pos c, if_pos rfl]
    rfl
  · refine ⟨h', setI S2 8 0, n, g, gr, (SMi S 0).tr (k.sm.tr (SMi _ _)), Or.inr ⟨setI_get _ _ _, ?_, c, M.i8 0, W, srt, al, ar, cap, q, e, A⟩⟩
    unfold P_X4_asksZones
    rw [asks_t f ⟨p, hp, rfl⟩, pb2_s, if_neg (fun z => (fl_0 f).mp z ⟨p, hp, rfl⟩), es, pb2_s, if_neg (show ¬ 120 < n by omega), if_neg (show ¬ (1 : Int32) = 0 by decide)]
    rfl
theorem q_zonesOf (a1 : Int32) (I : LW B L b xs h S) (m : Rm 50000 228000 h) : ∃ res h' r S', F_X1_zonesOf B a1 h = some (res, h') ∧ P_X4_zonesOf a1 S = some (r, S') ∧ QO "java/lang/IllegalArgumentException" "java/util/NoSuchElementException" True h h' S S' res (fun v => v = r) := by
  obtain ⟨dk, kv, hi, tx, C, _⟩ := id I.2.2.2.2.1
  have f := isHarbour_fl a1
  unfold F_X1_zonesOf P_X4_zonesOf
  rw [isHarbour_in]
  by_cases hp : isC 5 a1
  · obtain ⟨p, hp, rfl⟩ := hp
    obtain ⟨h', S2, n, g, gr, sm, hc⟩ := t_zon p hp I m
    rw [arg_t f ⟨p, hp, rfl⟩, thr_r, v_isO C, bind_some9]
    rcases hc with ⟨h8, ez, e, gs⟩ | ⟨h8, ez, c, M, W, srt, al, ar, cap, q, e, A⟩
    · rw [e, thr_l, ez, pb2_s, if_pos rfl]
      exact ⟨_, _, _, _, rfl, rfl, QO.bad2 gs sm h8⟩
    · have L1 : lp (fun y => F_X1_zonesOf_B17 B (I32 p) (some al) y.1 y.2 h') 100000 ((0 : Int32), (0 : Int32)) = some (cnS (I32 p) g n) := lp_for0 (B := fun y => F_X1_zonesOf_B17 B (I32 p) (some al) y.1 y.2 h') (fun j => (cnS (I32 p) g j, I32 j)) n (fun j hj => by
        obtain ⟨t, tj, zz, bb, dd, Ct, _⟩ := A.2 j hj
        show F_X1_zonesOf_B17 B (I32 p) (some al) (cnS (I32 p) g j) (I32 j) h' = _
        unfold F_X1_zonesOf_B17
        rw [A.1.size.1, bind_some9, A.1.size.2, bind_some9, if_neg (fun c => by rw [i32le (by omega) (by omega)] at c; omega), bind_some9, A.1.get hj (by omega), bind_some9, tj, v_castO Ct, bind_some9, v_getI Ct rfl, bind_some9, i32s j (by omega)]
        rfl) (by
        show F_X1_zonesOf_B17 B (I32 p) (some al) (cnS (I32 p) g n) (I32 n) h' = _
        unfold F_X1_zonesOf_B17
        rw [A.1.size.1, bind_some9, A.1.size.2, bind_some9, if_pos (Int32.le_refl _)]) 100000 (by omega)
      have L2 : lp (fun y => P_X4_zonesOf_B14 (I32 p) y.1 y.2 S2) 100000 ((0 : Int32), (0 : Int32)) = some (cnS (I32 p) g n) := lp_for0 (B := fun y => P_X4_zonesOf_B14 (I32 p) y.1 y.2 S2) (fun j => (cnS (I32 p) g j, I32 j)) n (fun j hj => by
        obtain ⟨q1, _⟩ := M.2.2 j hj
        show P_X4_zonesOf_B14 (I32 p) (cnS (I32 p) g j) (I32 j) _ = _
        unfold P_X4_zonesOf_B14 pgI
        rw [M.1, bind_some9, if_neg (fun c => by rw [i32le (by omega) (by omega)] at c; omega), rd_i (show ix (I32 j) j (mlen 14) from ix_of j 121 (by omega) (by decide)), bind_some9, q1, i32s j (by omega)]
        rfl) (by
        show P_X4_zonesOf_B14 (I32 p) (cnS (I32 p) g n) (I32 n) _ = _
        unfold P_X4_zonesOf_B14 pgI
        rw [M.1, bind_some9, if_pos (Int32.le_refl _)]) 100000 (by omega)
      rw [e, thr_r, ez, pb2_s, if_neg (by decide), L1, bind_some9, L2, bind_some9]
      exact ⟨_, _, _, _, rfl, rfl, QO.ok (gr.mono (by decide) (by decide)) sm h8 rfl⟩
  · unfold P_X4_asksZones
    rw [arg_f f hp (m.mono (by decide) (by decide)), thr_l, asks_f f hp, pb2_s, if_pos ((fl_0 f).mpr hp), pb2_s, if_pos rfl]
    exact ⟨_, _, _, _, rfl, rfl, QO.bad1 I⟩
theorem q_fewestLines (a1 : Int32) (I : LW B L b xs h S) (m : Rm 50000 228000 h) : ∃ res h' r S', F_X1_fewestLines B a1 h = some (res, h') ∧ P_X4_fewestLines a1 S = some (r, S') ∧ QO "java/lang/IllegalArgumentException" "java/util/NoSuchElementException" True h h' S S' res (fun v => v = r) := by
  obtain ⟨dk, kv, hi, tx, C, _⟩ := id I.2.2.2.2.1
  have f := isHarbour_fl a1
  unfold F_X1_fewestLines P_X4_fewestLines
  rw [isHarbour_in]
  by_cases hp : isC 5 a1
  · obtain ⟨p, hp, rfl⟩ := hp
    obtain ⟨h', S2, n, g, gr, sm, hc⟩ := t_zon p hp I m
    rw [arg_t f ⟨p, hp, rfl⟩, thr_r, v_isO C, bind_some9]
    rcases hc with ⟨h8, ez, e, gs⟩ | ⟨h8, ez, c, M, W, srt, al, ar, cap, q, e, A⟩
    · rw [e, thr_l, ez, pb2_s, if_pos rfl]
      exact ⟨_, _, _, _, rfl, rfl, QO.bad2 gs sm h8⟩
    · have hW : ∀ i, i < n → (g i).1 ≤ 5 ∧ (g i).2.2 ≤ 120 := fun i hi => ⟨(W i hi).1, by have := (W i hi).2.2; omega⟩
      have eqp : ∀ i, i < n → (I32 (g i).1 = I32 p ↔ (g i).1 = p) := fun i hi => ⟨fun w => i32inj (by have := (hW i hi).1; omega) (by omega) w, fun w => by rw [w]⟩
      obtain ⟨v, e1, hv⟩ : ∃ v, lp (fun y => F_X1_fewestLines_B22 B (I32 p) (some al) y.1 y.2 h') 100000 ((-1 : Int32), (I32 n - (1 : Int32))) = some v ∧ ((v = -1 ∧ ∀ i, i < n → (g i).1 ≠ p) ∨ ∃ i, i < n ∧ (g i).1 = p ∧ (∀ k, k < i → (g k).1 ≠ p) ∧ v = I32 (g i).2.2) := by
        refine lp_inv0 (fun j y => y.2 = I32 (n - j) - (1 : Int32) ∧ ((y.1 = -1 ∧ ∀ i, n - j ≤ i → i < n → (g i).1 ≠ p) ∨ ∃ i, n - j ≤ i ∧ i < n ∧ (g i).1 = p ∧ (∀ k, n - j ≤ k → k < i → (g k).1 ≠ p) ∧ y.1 = I32 (g i).2.2)) n (fun j hj y hy => ?_) (fun y hy => ?_) ⟨rfl, Or.inl ⟨rfl, fun i h1 h2 => by omega⟩⟩ (by omega)
        · obtain ⟨x, w⟩ := y
          obtain ⟨e1, hx⟩ := hy
          have e1 : w = I32 (n - j) - (1 : Int32) := e1
          obtain ⟨k, ek⟩ : ∃ k, n - j = k + 1 := ⟨n - j - 1, by omega⟩
          have ek2 : n - (j + 1) = k := by omega
          rw [ek, i32p k (by omega)] at e1
          subst e1
          rw [ek] at hx
          rw [ek2]
          have hkn : k < n := by omega
          obtain ⟨t, tj, zz, bb, dd, Ct, _⟩ := A.2 k hkn
          show ∃ z', F_X1_fewestLines_B22 B (I32 p) (some al) x (I32 k) h' = some (.inl z') ∧ _
          unfold F_X1_fewestLines_B22
          rw [if_neg (ix_of k 200 (by omega) (by decide)).1, A.1.size.1, bind_some9, A.1.get hkn (by omega), bind_some9, tj, v_castO Ct, bind_some9, v_getI Ct rfl, bind_some9]
          have e2 : I32 k + (-1 : Int32) = I32 k - (1 : Int32) := (Int32.sub_eq_add_neg _ _).symm
          by_cases ep : (g k).1 = p
          · rw [if_pos ((eqp k hkn).mpr ep), bind_some9, A.1.get hkn (by omega), bind_some9, tj, v_castO Ct, bind_some9, v_getI Ct rfl, bind_some9]
            exact ⟨_, rfl, e2, Or.inr ⟨k, Nat.le_refl _, hkn, ep, fun i h1 h2 => by omega, rfl⟩⟩
          · rw [if_neg (fun w => ep ((eqp k hkn).mp w))]
            refine ⟨_, rfl, e2, ?_⟩
            rcases hx with ⟨q1, q2⟩ | ⟨i, q1, q2, q3, q4, q5⟩
            · refine Or.inl ⟨q1, fun i h1 h2 => ?_⟩
              by_cases ei : i = k
              · rw [ei]
                exact ep
              · exact q2 i (by omega) h2
            · refine Or.inr ⟨i, by omega, q2, q3, fun i2 h1 h2 => ?_, q5⟩
              by_cases ei : i2 = k
              · rw [ei]
                exact ep
              · exact q4 i2 (by omega) h2
        · obtain ⟨x, w⟩ := y
          obtain ⟨e1, hx⟩ := hy
          have e1 : w = I32 (n - n) - (1 : Int32) := e1
          rw [Nat.sub_self] at e1 hx
          subst e1
          refine ⟨x, ?_, ?_⟩
          · show F_X1_fewestLines_B22 B (I32 p) (some al) x (I32 0 - (1 : Int32)) h' = _
            unfold F_X1_fewestLines_B22
            rw [if_pos (by decide)]
          · rcases hx with ⟨q1, q2⟩ | ⟨i, q1, q2, q3, q4, q5⟩
            · exact Or.inl ⟨q1, fun i h2 => q2 i (Nat.zero_le _) h2⟩
            · exact Or.inr ⟨i, q2, q3, fun k h2 => q4 k (Nat.zero_le _) h2, q5⟩
      obtain ⟨u, e2, hu⟩ : ∃ u, lp (fun y => P_X4_fewestLines_B15 (I32 p) y.1 y.2 S2) 100000 ((100000 : Int32), (0 : Int32)) = some u ∧ ((u = 100000 ∧ ∀ i, i < n → (g i).1 ≠ p) ∨ ∃ i, i < n ∧ (g i).1 = p ∧ (∀ k, k < n → (g k).1 = p → (g i).2.2 ≤ (g k).2.2) ∧ u = I32 (g i).2.2) := by
        refine lp_inv0 (fun j y => y.2 = I32 j ∧ ((y.1 = 100000 ∧ ∀ i, i < j → (g i).1 ≠ p) ∨ ∃ i, i < j ∧ (g i).1 = p ∧ (∀ k, k < j → (g k).1 = p → (g i).2.2 ≤ (g k).2.2) ∧ y.1 = I32 (g i).2.2)) n (fun j hj y hy => ?_) (fun y hy => ?_) ⟨rfl, Or.inl ⟨rfl, fun i h1 => absurd h1 (Nat.not_lt_zero i)⟩⟩ (by omega)
        · obtain ⟨x, w⟩ := y
          obtain ⟨rfl, hx⟩ := hy
          obtain ⟨q1, q2, _⟩ := M.2.2 j hj
          have hw := hW j hj
          show ∃ z', P_X4_fewestLines_B15 (I32 p) x (I32 j) S2 = some (.inl z') ∧ _
          unfold P_X4_fewestLines_B15 pgI
          rw [M.1, bind_some9, if_neg (fun c => by rw [i32le (by omega) (by omega)] at c; omega), rd_i (show ix (I32 j) j (mlen 14) from ix_of j 121 (by omega) (by decide)), bind_some9, q1, i32s j (by omega)]
          by_cases ep : (g j).1 = p
          · rw [if_pos ((eqp j hj).mpr ep), rd_i (show ix (I32 j) j (mlen 15) from ix_of j 121 (by omega) (by decide)), bind_some9, q2, less_min]
            refine ⟨_, rfl, rfl, Or.inr ?_⟩
            rcases hx with ⟨x1, x2⟩ | ⟨i, x1, x2, x3, x4⟩
            · refine ⟨j, Nat.lt_succ_self j, ep, fun k hk ek => ?_, ?_⟩
              · by_cases ekj : k = j
                · rw [ekj]
                  exact Nat.le_refl _
                · exact absurd ek (x2 k (by omega))
              · have x1 : x = 100000 := x1
                show gmin x (I32 (g j).2.2) = _
                unfold gmin
                rw [x1, if_pos (Int32.lt_iff_toInt_lt.mpr (by rw [i32t (by omega), show (100000 : Int32).toInt = 100000 from rfl]; omega))]
            · have x4 : x = I32 (g i).2.2 := x4
              have hwi := hW i (by omega)
              by_cases cm : (g j).2.2 < (g i).2.2
              · refine ⟨j, Nat.lt_succ_self j, ep, fun k hk ek => ?_, ?_⟩
                · by_cases ekj : k = j
                  · rw [ekj]
                    exact Nat.le_refl _
                  · have := x3 k (by omega) ek
                    omega
                · show gmin x (I32 (g j).2.2) = _
                  unfold gmin
                  rw [x4, if_pos (Int32.lt_iff_toInt_lt.mpr (by rw [i32t (by omega), i32t (by omega)]; omega))]
              · refine ⟨i, by omega, x2, fun k hk ek => ?_, ?_⟩
                · by_cases ekj : k = j
                  · rw [ekj]
                    omega
                  · exact x3 k (by omega) ek
                · show gmin x (I32 (g j).2.2) = _
                  unfold gmin
                  rw [x4, if_neg (fun w => by have w := Int32.lt_iff_toInt_lt.mp w; rw [i32t (by omega), i32t (by omega)] at w; omega)]
          · rw [if_neg (fun w => ep ((eqp j hj).mp w))]
            refine ⟨_, rfl, rfl, ?_⟩
            rcases hx with ⟨x1, x2⟩ | ⟨i, x1, x2, x3, x4⟩
            · refine Or.inl ⟨x1, fun k hk => ?_⟩
              by_cases ekj : k = j
              · rw [ekj]
                exact ep
              · exact x2 k (by omega)
            · refine Or.inr ⟨i, by omega, x2, fun k hk ek => ?_, x4⟩
              by_cases ekj : k = j
              · rw [ekj] at ek
                exact absurd ek ep
              · exact x3 k (by omega) ek
        · obtain ⟨x, w⟩ := y
          obtain ⟨rfl, hx⟩ := hy
          refine ⟨x, ?_, hx⟩
          show P_X4_fewestLines_B15 (I32 p) x (I32 n) S2 = _
          unfold P_X4_fewestLines_B15 pgI
          rw [M.1, bind_some9, if_pos (Int32.le_refl _)]
      have m1 : Rm 1 6 h' := (m.gr gr (by decide) (by decide)).mono (by decide) (by decide)
      have gs : Gr (fun a => a < hSz h) 50000 228000 h (hskip h' 6) := (gr.tr ((Gr.skip (P := fun a => a < hSz h') gr.ok 6 (Nat.lt_irrefl _)).sub (fun a (q : a < hSz h) => Nat.lt_of_lt_of_le q gr.2.2.2.1))).mono (by decide) (by decide)
      rw [e, thr_r, ez, pb2_s, if_neg (by decide), A.1.size.1, bind_some9, A.1.size.2, bind_some9, e1, bind_some9, e2, bind_some9]
      rcases hv with ⟨v1, v2⟩ | ⟨i, i1, i2, i3, i4⟩
      · rcases hu with ⟨u1, u2⟩ | ⟨k, k1, k2, k3, k4⟩
        · subst v1
          subst u1
          rw [if_pos rfl, such_f rfl m1, thr_l, if_pos (by decide), m_fails, pb2_s]
          exact ⟨_, _, _, _, rfl, rfl, QO.bad2 gs (sm.tr (SMi _ _)) (setI_get _ _ _)⟩
        · exact absurd k2 (v2 k k1)
      · rcases hu with ⟨u1, u2⟩ | ⟨k, k1, k2, k3, k4⟩
        · exact absurd i2 (u2 i i1)
        · have hwi := hW i i1
          have hwk := hW k k1
          have eik : (g i).2.2 = (g k).2.2 := by
            have h1 := k3 i i1 i2
            have h2 : i ≤ k := Nat.le_of_not_lt (fun w => i3 k w k2)
            have h3 := srt i k h2 k1
            omega
          rw [eik] at i4
          subst i4
          subst k4
          rw [if_neg (fun w => by have w := congrArg Int32.toInt w; rw [i32t (by omega), show (-1 : Int32).toInt = -1 from rfl] at w; omega), such_t (by decide), thr_r, if_neg (fun w => by have w := Int32.le_iff_toInt_le.mp w; rw [i32t (by omega), show (100000 : Int32).toInt = 100000 from rfl] at w; omega)]
          exact ⟨_, _, _, _, rfl, rfl, QO.ok (gr.mono (by decide) (by decide)) sm h8 rfl⟩
  · unfold P_X4_asksZones
    rw [arg_f f hp (m.mono (by decide) (by decide)), thr_l, asks_f f hp, pb2_s, if_pos ((fl_0 f).mpr hp), pb2_s, if_pos rfl]
    exact ⟨_, _, _, _, rfl, rfl, QO.bad1 I⟩
end ZQ
