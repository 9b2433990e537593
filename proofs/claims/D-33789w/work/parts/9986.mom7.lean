/-! ferries by moments: the fewest ticks -/
section MQ7
variable {B L b : Nat} {xs : Nat → Int32} {h : HH} {S : MS}
theorem q_fewestTicks (a1 : Int32) (I : LW B L b xs h S) (m : Rm 50000 228000 h) : ∃ res h' r S', F_X1_fewestTicks B a1 h = some (res, h') ∧ P_X4_fewestTicks a1 S = some (r, S') ∧ QO "java/lang/IllegalArgumentException" "java/util/NoSuchElementException" True h h' S S' res (fun v => v = r) := by
  have fh := isHarbour_fl a1
  unfold F_X1_fewestTicks P_X4_fewestTicks F_X2_fewestTicksTo
  rw [isHarbour_in]
  by_cases hp : isC 5 a1
  · obtain ⟨p, hp, rfl⟩ := hp
    obtain ⟨dk, kv, hi, tx, st, alD, sh, z, w, f, ar, cap, qD, la, le, mo, N, h', S', tk, q, n, C, D, h102, e1, e2, RC', RM', RI'⟩ := t_ride I m (S1 := setI S 8 0) rfl
    obtain ⟨g, ⟨ft, C1, C2⟩, _⟩ := id RC'
    have n7 := RI'.le
    have sm : SM S S' := (SMi S 0).tr RM'.sm
    have h8 : S'.2.1 8 = 0 := (RM'.2.2.2.2 8 (by decide)).trans (setI_get _ _ _)
    have tb : ∀ c t, tk c = some t → t ≤ 7986 := fun c t e => (RI'.2.2 c t e).2.1
    have i0 : ∀ t, t ≤ 7986 → I32 t ≠ -1 := fun t ht w => by
      have w := congrArg Int32.toInt w
      rw [i32t (by omega), show (-1 : Int32).toInt = -1 from rfl] at w
      omega
    have e3 : (1331 : Int32) * (I32 p + (1 : Int32)) = I32 (1331 * (p + 1)) := by
      rw [i32s p (by omega), l1331, i32mul (by decide) (by omega) (by omega)]
    have e4 : (1331 : Int32) * I32 p = I32 (1331 * p) := by rw [l1331, i32mul (by decide) (by omega) (by omega)]
    obtain ⟨v, f1, hv⟩ : ∃ v, lp (fun y => F_X2_fewestTicksTo_B14 dk (I32 p) (some (hSz h)) y.1 y.2 h') 100000 ((-1 : Int32), I32 (1331 * p)) = some v ∧ ((v = -1 ∧ ∀ c, hb c = p → tk c = none) ∨ ∃ c t, hb c = p ∧ tk c = some t ∧ v = I32 t ∧ ∀ c' t', hb c' = p → tk c' = some t' → t ≤ t') := by
      refine lp_inv0 (fun j y => y.2 = I32 (1331 * p + j) ∧ ((y.1 = -1 ∧ ∀ c, 1331 * p ≤ c → c < 1331 * p + j → tk c = none) ∨ ∃ c t, (1331 * p ≤ c ∧ c < 1331 * p + j) ∧ tk c = some t ∧ y.1 = I32 t ∧ ∀ c' t', 1331 * p ≤ c' → c' < 1331 * p + j → tk c' = some t' → t ≤ t')) 1331 (fun j hj y hy => ?_) (fun y hy => ?_) ⟨rfl, Or.inl ⟨rfl, fun c h1 h2 => absurd h2 (by omega)⟩⟩ (by decide)
      · obtain ⟨x, i⟩ := y
        obtain ⟨rfl, hx⟩ := hy
        have hc : 1331 * p + j < 7986 := by omega
        have e5 : I32 (1331 * p + j) + (1 : Int32) = I32 (1331 * p + (j + 1)) := by
          rw [i32s _ (by omega)]
          rfl
        have ea : aldI h' 0 (some (hSz h)) (I32 (1331 * p + j)) = some (oi (tk (1331 * p + j))) := by rw [v_aldI C1 (ix86 hc), C2 _ hc]
        show ∃ z', F_X2_fewestTicksTo_B14 dk (I32 p) (some (hSz h)) x (I32 (1331 * p + j)) h' = some (.inl z') ∧ _
        unfold F_X2_fewestTicksTo_B14 F_X2_fewestTicksTo_T52
        rw [e3, if_neg (fun c => by rw [i32le (by omega) (by omega)] at c; omega), ea, bind_some9]
        cases et : tk (1331 * p + j) with
        | none =>
          rw [if_pos (show oi none = (-1 : Int32) from rfl), if_pos rfl, e5]
          refine ⟨_, rfl, rfl, ?_⟩
          rcases hx with ⟨x1, x2⟩ | ⟨c, t, c1, c2, c3, c4⟩
          · refine Or.inl ⟨x1, fun c h1 h2 => ?_⟩
            by_cases ec : c = 1331 * p + j
            · rw [ec]
              exact et
            · exact x2 c h1 (by omega)
          · refine Or.inr ⟨c, t, ⟨c1.1, by omega⟩, c2, c3, fun c' t' h1 h2 h3 => ?_⟩
            by_cases ec : c' = 1331 * p + j
            · rw [ec, et] at h3
              cases h3
            · exact c4 c' t' h1 (by omega) h3
        | some t =>
          have ht := tb _ _ et
          rw [if_neg (show ¬ oi (some t) = (-1 : Int32) from i0 t ht)]
          rcases hx with ⟨x1, x2⟩ | ⟨c, t0, c1, c2, c3, c4⟩
          · have x1 : x = -1 := x1
            rw [if_pos x1, if_neg (show ¬ (1 : Int32) = 0 by decide), bind_some9, e5]
            refine ⟨_, rfl, rfl, Or.inr ⟨_, t, ⟨by omega, by omega⟩, et, rfl, fun c' t' h1 h2 h3 => ?_⟩⟩
            by_cases ec : c' = 1331 * p + j
            · rw [ec, et] at h3
              cases h3
              exact Nat.le_refl _
            · rw [x2 c' h1 (by omega)] at h3
              cases h3
          · have c3 : x = I32 t0 := c3
            have ht0 := tb _ _ c2
            rw [if_neg (by rw [c3]; exact i0 t0 ht0), bind_some9, c3]
            show ∃ z', (if I32 t0 ≤ I32 t then _ else _) = _ ∧ _
            by_cases cm : t0 ≤ t
            · rw [if_pos ((i32le (by omega) (by omega)).mpr cm), if_pos rfl, e5]
              refine ⟨_, rfl, rfl, Or.inr ⟨c, t0, ⟨c1.1, by omega⟩, c2, rfl, fun c' t' h1 h2 h3 => ?_⟩⟩
              by_cases ec : c' = 1331 * p + j
              · rw [ec, et] at h3
                cases h3
                exact cm
              · exact c4 c' t' h1 (by omega) h3
            · rw [if_neg (fun w => cm ((i32le (by omega) (by omega)).mp w)), if_neg (show ¬ (1 : Int32) = 0 by decide), bind_some9, e5]
              refine ⟨_, rfl, rfl, Or.inr ⟨_, t, ⟨by omega, by omega⟩, et, rfl, fun c' t' h1 h2 h3 => ?_⟩⟩
              by_cases ec : c' = 1331 * p + j
              · rw [ec, et] at h3
                cases h3
                exact Nat.le_refl _
              · have := c4 c' t' h1 (by omega) h3
                omega
      · obtain ⟨x, i⟩ := y
        obtain ⟨rfl, hx⟩ := hy
        have hbi : ∀ c, hb c = p → 1331 * p ≤ c ∧ c < 1331 * p + 1331 := fun c e => by
          unfold hb at e
          omega
        refine ⟨x, ?_, ?_⟩
        · show F_X2_fewestTicksTo_B14 dk (I32 p) (some (hSz h)) x (I32 (1331 * p + 1331)) h' = _
          unfold F_X2_fewestTicksTo_B14
          rw [e3, if_pos ((i32le (by omega) (by omega)).mpr (by omega))]
        · rcases hx with ⟨x1, x2⟩ | ⟨c, t, c1, c2, c3, c4⟩
          · exact Or.inl ⟨x1, fun c e => x2 c (hbi c e).1 (hbi c e).2⟩
          · exact Or.inr ⟨c, t, by unfold hb; omega, c2, c3, fun c' t' e h3 => c4 c' t' (hbi c' e).1 (hbi c' e).2 h3⟩
    obtain ⟨u, f2, hu⟩ : ∃ u, lp (fun y => P_X4_fewestTicks_B22 (I32 p) y.1 y.2 S') 100000 ((100000 : Int32), (0 : Int32)) = some u ∧ ((u = 100000 ∧ ∀ i, i < n → hb (q i) ≠ p) ∨ ∃ i t, i < n ∧ hb (q i) = p ∧ tk (q i) = some t ∧ u = I32 t ∧ ∀ k t', k < n → hb (q k) = p → tk (q k) = some t' → t ≤ t') := by
      refine lp_inv0 (fun j y => y.2 = I32 j ∧ ((y.1 = 100000 ∧ ∀ i, i < j → hb (q i) ≠ p) ∨ ∃ i t, i < j ∧ hb (q i) = p ∧ tk (q i) = some t ∧ y.1 = I32 t ∧ ∀ k t', k < j → hb (q k) = p → tk (q k) = some t' → t ≤ t')) n (fun j hj y hy => ?_) (fun y hy => ?_) ⟨rfl, Or.inl ⟨rfl, fun i h1 => absurd h1 (Nat.not_lt_zero i)⟩⟩ (by omega)
      · obtain ⟨x, i⟩ := y
        obtain ⟨rfl, hx⟩ := hy
        obtain ⟨hq, t, et⟩ := RI'.2.1 j hj
        have ht := tb _ _ et
        have h5 := hb_le hq
        have r18 : rd S' 18 (I32 j) = some (I32 (q j)) := by rw [rd_i (show ix (I32 j) j (mlen 18) from ix86 (by omega)), RM'.2.2.1 j hj]
        have r17 : rd S' 17 (I32 (q j)) = some (I32 t) := by
          rw [rd_i (show ix (I32 (q j)) (q j) (mlen 17) from ix86 hq), RM'.2.1 _ hq, et]
          rfl
        show ∃ z', P_X4_fewestTicks_B22 (I32 p) x (I32 j) S' = some (.inl z') ∧ _
        unfold P_X4_fewestTicks_B22 pgI
        rw [RM'.1, bind_some9, if_neg (fun c => by rw [i32le (by omega) (by omega)] at c; omega), r18, bind_some9, hb_of (by omega), i32s j (by omega)]
        by_cases ep : hb (q j) = p
        · rw [if_pos (by rw [ep]), bind_some9, r17, bind_some9, less_min]
          refine ⟨_, rfl, rfl, Or.inr ?_⟩
          rcases hx with ⟨x1, x2⟩ | ⟨i, t0, i1, i2, i3, i4, i5⟩
          · refine ⟨j, t, Nat.lt_succ_self j, ep, et, ?_, fun k t' hk ek tk' => ?_⟩
            · have x1 : x = 100000 := x1
              show gmin x (I32 t) = _
              unfold gmin
              rw [x1, if_pos (Int32.lt_iff_toInt_lt.mpr (by rw [i32t (by omega), show (100000 : Int32).toInt = 100000 from rfl]; omega))]
            · by_cases ekj : k = j
              · rw [ekj, et] at tk'
                cases tk'
                exact Nat.le_refl _
              · exact absurd ek (x2 k (by omega))
          · have i4 : x = I32 t0 := i4
            have ht0 := tb _ _ i3
            by_cases cm : t < t0
            · refine ⟨j, t, Nat.lt_succ_self j, ep, et, ?_, fun k t' hk ek tk' => ?_⟩
              · show gmin x (I32 t) = _
                unfold gmin
                rw [i4, if_pos ((i32lt (by omega) (by omega)).mpr cm)]
              · by_cases ekj : k = j
                · rw [ekj, et] at tk'
                  cases tk'
                  exact Nat.le_refl _
                · have := i5 k t' (by omega) ek tk'
                  omega
            · refine ⟨i, t0, by omega, i2, i3, ?_, fun k t' hk ek tk' => ?_⟩
              · show gmin x (I32 t) = _
                unfold gmin
                rw [i4, if_neg (fun w => cm ((i32lt (by omega) (by omega)).mp w))]
              · by_cases ekj : k = j
                · rw [ekj, et] at tk'
                  cases tk'
                  omega
                · exact i5 k t' (by omega) ek tk'
        · rw [if_neg (fun w => ep (i32inj (by omega) (by omega) w))]
          refine ⟨_, rfl, rfl, ?_⟩
          rcases hx with ⟨x1, x2⟩ | ⟨i, t0, i1, i2, i3, i4, i5⟩
          · refine Or.inl ⟨x1, fun k hk => ?_⟩
            by_cases ekj : k = j
            · rw [ekj]
              exact ep
            · exact x2 k (by omega)
          · refine Or.inr ⟨i, t0, by omega, i2, i3, i4, fun k t' hk ek tk' => ?_⟩
            by_cases ekj : k = j
            · rw [ekj] at ek
              exact absurd ek ep
            · exact i5 k t' (by omega) ek tk'
      · obtain ⟨x, i⟩ := y
        obtain ⟨rfl, hx⟩ := hy
        refine ⟨x, ?_, hx⟩
        show P_X4_fewestTicks_B22 (I32 p) x (I32 n) S' = _
        unfold P_X4_fewestTicks_B22 pgI
        rw [RM'.1, bind_some9, if_pos (Int32.le_refl _)]
    have m1 : Rm 1 6 h' := (m.gr g (by decide) (by decide)).mono (by decide) (by decide)
    have gs : Gr (fun a => a < hSz h) 50000 228000 h (hskip h' 6) := (g.tr ((Gr.skip (P := fun a => a < hSz h') g.ok 6 (Nat.lt_irrefl _)).sub (fun a (q : a < hSz h) => Nat.lt_of_lt_of_le q g.2.2.2.1))).mono (by decide) (by decide)
    rw [arg_t fh ⟨p, hp, rfl⟩, thr_r, v_getR C rfl, bind_some9, v_isO D.1, bind_some9, v_isO D.1, bind_some9, e1, b2_s, e4, f1, bind_some9, b2_s, asks_t fh ⟨p, hp, rfl⟩, pb2_s, if_neg (fun z => (fl_0 fh).mp z ⟨p, hp, rfl⟩), e2, bind_some9, f2, bind_some9]
    rcases hv with ⟨v1, v2⟩ | ⟨c, t, c1, c2, c3, c4⟩
    · rcases hu with ⟨u1, u2⟩ | ⟨i, t, i1, i2, i3, i4, i5⟩
      · subst v1
        subst u1
        rw [if_pos rfl, such_f rfl m1, thr_l, if_pos (by decide), m_fails, pb2_s]
        exact ⟨_, _, _, _, rfl, rfl, QO.bad2 gs (sm.tr (SMi _ _)) (setI_get _ _ _)⟩
      · rw [v2 _ i2] at i3
        cases i3
    · obtain ⟨_, htc, k, hk, ek⟩ := RI'.2.2 c t c2
      rcases hu with ⟨u1, u2⟩ | ⟨i, t0, i1, i2, i3, i4, i5⟩
      · exact absurd (by rw [ek]; exact c1) (u2 k hk)
      · have et : t = t0 := by
          have h1 := c4 _ _ i2 i3
          have h2 := i5 k t hk (by rw [ek]; exact c1) (by rw [ek]; exact c2)
          omega
        subst et
        subst c3
        subst i4
        rw [if_neg (i0 t htc), such_t (by decide), thr_r, if_neg (fun w => by have w := Int32.le_iff_toInt_le.mp w; rw [i32t (by omega), show (100000 : Int32).toInt = 100000 from rfl] at w; omega)]
        exact ⟨_, _, _, _, rfl, rfl, QO.ok (g.mono (by decide) (by decide)) sm h8 rfl⟩
  · rw [arg_f fh hp (m.mono (by decide) (by decide)), thr_l, asks_f fh hp, pb2_s, if_pos ((fl_0 fh).mpr hp)]
    exact ⟨_, _, _, _, rfl, rfl, QO.bad1 I⟩
end MQ7
