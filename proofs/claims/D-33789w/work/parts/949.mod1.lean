/-! the model's own steps on rows of bounds -/
theorem i32add {a b : Nat} (h : a + b ≤ 20000) : I32 a + I32 b = I32 (a + b) := by
  apply Int32.toInt_inj.mp
  rw [Int32.toInt_add, i32t (by omega), i32t (by omega), i32t (by omega), Int.bmod_eq_of_le (by omega) (by omega)]
  omega
theorem i32mul {a b : Nat} (ha : a ≤ 20000) (hb : b ≤ 20000) (h : a * b ≤ 20000) : I32 a * I32 b = I32 (a * b) := by
  apply Int32.toInt_inj.mp
  have e : ((a * b : Nat) : Int) = (a : Int) * (b : Int) := Int.natCast_mul a b
  rw [Int32.toInt_mul, i32t ha, i32t hb, i32t h, ← e, Int.bmod_eq_of_le (by omega) (by omega)]
theorem rd_i {S : MS} {K n : Nat} {i : Int32} (hi : ix i n (mlen K)) : rd S K i = some (S.1 K n) := rd_n S hi.1 hi.2.1 hi.2.2
theorem wr_i {S : MS} {K n : Nat} {i : Int32} (x : Int32) (hi : ix i n (mlen K)) : wr S K i x = some (setA S K (upd (S.1 K) n x)) := wr_n S x hi.1 hi.2.1 hi.2.2
theorem setA_ne (S : MS) {K K' : Nat} (d : ZS) (h : K' ≠ K) : (setA S K d).1 K' = S.1 K' := by simp [setA, va_up, h]
theorem setA_2 (S : MS) (K : Nat) (d : ZS) : (setA S K d).2 = S.2 := rfl
theorem ix0 {j n : Nat} (h : j < n) (h2 : n ≤ 20000) : ix ((0 : Int32) + I32 j) j n := by
  rw [show (0 : Int32) = I32 0 from rfl, i32add (by omega), Nat.zero_add]
  exact ix_of j n h h2
theorem ix4 {i j : Nat} (hi : i < 4) (hj : j < 4) : ix (((4 : Int32) * I32 i) + I32 j) (4 * i + j) 16 := ⟨fun q => zi1 i hi j hj (Or.inl q), zi2 i hi j hj, by omega⟩
theorem ix04 {i j n : Nat} (hi : i < 4) (hj : j < 4) (hn : 16 ≤ n) : ix (((0 : Int32) + ((4 : Int32) * I32 i)) + I32 j) (4 * i + j) n := by
  have h : ∀ i, i < 4 → ∀ j, j < 4 → ¬ (((0 : Int32) + ((4 : Int32) * I32 i)) + I32 j) < 0 ∧ (((0 : Int32) + ((4 : Int32) * I32 i)) + I32 j).toNatClampNeg = 4 * i + j := by decide
  exact ⟨(h i hi j hj).1, (h i hi j hj).2, by omega⟩
theorem ix12 {j : Nat} (hj : j < 4) : ix ((12 : Int32) + I32 j) (12 + j) 16 := by
  have h : ∀ j, j < 4 → ¬ ((12 : Int32) + I32 j) < 0 ∧ ((12 : Int32) + I32 j).toNatClampNeg = 12 + j := by decide
  exact ⟨(h j hj).1, (h j hj).2, by omega⟩
theorem ix43 {i : Nat} (hi : i < 4) : ix (((4 : Int32) * I32 i) + (3 : Int32)) (4 * i + 3) 16 := ix4 hi (j := 3) (by decide)
/-- n numbers from one place to another one -/
def mov (S : MS) (K o K' o' n : Nat) : MS := setA S K' (fun i => if o' ≤ i ∧ i < o' + n then S.1 K (o + (i - o')) else S.1 K' i)
theorem mov_0 (S : MS) (K o K' o' : Nat) : mov S K o K' o' 0 = S := by
  unfold mov
  have : (fun i => if o' ≤ i ∧ i < o' + 0 then S.1 K (o + (i - o')) else S.1 K' i) = S.1 K' := by
    funext i
    rw [if_neg (by omega)]
  rw [this, setA_self]
theorem mov_s (S : MS) {K o K' o' n : Nat} (hd : K ≠ K' ∨ ¬ (o' ≤ o + n ∧ o + n < o' + n)) : setA (mov S K o K' o' n) K' (upd ((mov S K o K' o' n).1 K') (o' + n) ((mov S K o K' o' n).1 K (o + n))) = mov S K o K' o' (n + 1) := by
  have e1 : (mov S K o K' o' n).1 K (o + n) = S.1 K (o + n) := by
    unfold mov
    by_cases h : K = K'
    · subst h
      rw [setA_get, if_neg (hd.elim (fun q => absurd rfl q) id)]
    · rw [setA_ne S _ h]
  rw [e1]
  unfold mov
  rw [setA_get, setA_set]
  congr 1
  funext i
  unfold upd
  by_cases e : i = o' + n
  · rw [if_pos e, if_pos (by omega), e, show o' + n - o' = n by omega]
  · rw [if_neg e]
    show (if o' ≤ i ∧ i < o' + n then S.1 K (o + (i - o')) else S.1 K' i) = _
    by_cases h : o' ≤ i ∧ i < o' + n
    · rw [if_pos h, if_pos (by omega)]
    · rw [if_neg h, if_neg (by omega)]
theorem m_carries {K K' o o' : Nat} {a b : Int32} (S : MS) (ha : a = I32 o) (hb : b = I32 o') (h1 : o + 16 ≤ mlen K) (h2 : o' + 16 ≤ mlen K') (h3 : mlen K ≤ 10000) (h4 : mlen K' ≤ 10000) (hd : K ≠ K' ∨ o + 16 ≤ o' ∨ o' + 16 ≤ o) : P_X4_carries K a K' b S = some (mov S K o K' o' 16) := by
  subst ha
  subst hb
  have L := lp_for0 (B := fun z => P_X4_carries_B3 K (I32 o) K' (I32 o') z.1 z.2) (r := mov S K o K' o' 16) (fun j => (I32 j, mov S K o K' o' j)) 16 (fun j hj => by
    show P_X4_carries_B3 K (I32 o) K' (I32 o') (I32 j) (mov S K o K' o' j) = _
    unfold P_X4_carries_B3
    rw [if_neg (n16 hj), i32add (by omega), i32add (by omega), rd_i (ix_of _ _ (by omega) (by omega)), bind_some9, wr_i _ (ix_of _ _ (by omega) (by omega)), bind_some9, i32s j (by omega), mov_s S (hd.elim Or.inl (fun q => Or.inr (by omega)))]) (by
    show P_X4_carries_B3 K (I32 o) K' (I32 o') (I32 16) (mov S K o K' o' 16) = _
    unfold P_X4_carries_B3
    rw [if_pos (by decide)]) 100000 (by decide)
  have L2 : lp (fun z => P_X4_carries_B3 K (I32 o) K' (I32 o') z.1 z.2) 100000 ((0 : Int32), S) = some (mov S K o K' o' 16) := by
    have := L
    rw [mov_0] at this
    exact this
  unfold P_X4_carries
  rw [L2]
  rfl
theorem m_copies {K K' o o' : Nat} {a b : Int32} (S : MS) (ha : a = I32 o) (hb : b = I32 o') (h1 : o + 194 ≤ mlen K) (h2 : o' + 194 ≤ mlen K') (h3 : mlen K ≤ 10000) (h4 : mlen K' ≤ 10000) (hd : K ≠ K') : P_X4_copies K a K' b S = some (mov S K o K' o' 194) := by
  subst ha
  subst hb
  have L := lp_for0 (B := fun z => P_X4_copies_B3 K (I32 o) K' (I32 o') z.1 z.2) (r := mov S K o K' o' 194) (fun j => (I32 j, mov S K o K' o' j)) 194 (fun j hj => by
    show P_X4_copies_B3 K (I32 o) K' (I32 o') (I32 j) (mov S K o K' o' j) = _
    unfold P_X4_copies_B3
    have n194 : ¬ (194 : Int32) ≤ I32 j := fun q => by
      have q : I32 194 ≤ I32 j := q
      rw [i32le (by decide) (by omega)] at q
      omega
    rw [if_neg n194, i32add (by omega), i32add (by omega), rd_i (ix_of _ _ (by omega) (by omega)), bind_some9, wr_i _ (ix_of _ _ (by omega) (by omega)), bind_some9, i32s j (by omega), mov_s S (Or.inl hd)]) (by
    show P_X4_copies_B3 K (I32 o) K' (I32 o') (I32 194) (mov S K o K' o' 194) = _
    unfold P_X4_copies_B3
    rw [if_pos (by decide)]) 100000 (by decide)
  have L2 : lp (fun z => P_X4_copies_B3 K (I32 o) K' (I32 o') z.1 z.2) 100000 ((0 : Int32), S) = some (mov S K o K' o' 194) := by
    have := L
    rw [mov_0] at this
    exact this
  unfold P_X4_copies
  rw [L2]
  rfl
/-- a row within the model's first array, from a place on -/
def sub (f : Nat → Int32) (o : Nat) : ZS := fun i => f (o + i)
theorem mv_fl {t : ZS} {D : OD} (hr : rep 100000 t D) : fl (mv t 4) (nn D) := by
  have h : ∀ k, k ≤ 4 → fl (mv t k) (∀ j, j < k → ∀ x, D (5 * j) = some x → 0 ≤ x) := fun k => by
    induction k with
    | zero => exact fun _ => Or.inl ⟨rfl, fun j hj => absurd hj (Nat.not_lt_zero j)⟩
    | succ k ih =>
      intro hk
      have h1 := hr (5 * k) (by omega)
      have z0 : (0 : Int32).toInt = 0 := rfl
      unfold mv
      rcases ih (by omega) with ⟨e, p⟩ | ⟨e, p⟩
      · rw [e, if_neg (by decide)]
        cases hD : D (5 * k) with
        | none =>
          rw [hD] at h1
          have h1 : t (5 * k) = 100000 := h1
          rw [h1, if_neg (by decide)]
          refine Or.inl ⟨rfl, fun j hj x hx => ?_⟩
          by_cases ej : j = k
          · subst ej
            rw [hD] at hx
            cases hx
          · exact p j (by omega) x hx
        | some y =>
          rw [hD] at h1
          by_cases hy : y < 0
          · rw [if_pos (Int32.lt_iff_toInt_lt.mpr (by rw [h1.1]; exact hy))]
            exact Or.inr ⟨rfl, fun q => by have := q k (by omega) y hD; omega⟩
          · rw [if_neg (fun q => hy (by have := Int32.lt_iff_toInt_lt.mp q; rw [h1.1] at this; exact this))]
            refine Or.inl ⟨rfl, fun j hj x hx => ?_⟩
            by_cases ej : j = k
            · subst ej
              rw [hD] at hx
              cases hx
              omega
            · exact p j (by omega) x hx
      · rw [e, if_pos rfl]
        exact Or.inr ⟨rfl, fun q => p (fun j hj => q j (by omega))⟩
  exact h 4 (Nat.le_refl _)
/-- tightening keeps what the row stands for -/
def RG (E : OD) : Prop := ∀ t, rep 100000 t E → rep 100000 (gtl 100000 t 4) (otl E 4)
theorem EC.RG {E : OD} (h : EC E) : RG E := fun _ hr => h.rep n5 hr
theorem RG_clo {E : OD} (hc : clo E) (hb : bd (-100000000) 100000000 E) : RG E := fun t hr => by
  rw [gtl_clo n5 hr hc hb 4 (Nat.le_refl _), otl_clo hc 4 (Nat.le_refl _)]
  exact hr
theorem m_tightens {K : Nat} (hK : mlen K = 16) (S : MS) {t : ZS} {E : OD} (hr : rep 100000 t E) (rg : RG E) : ∃ v t', P_X4_tightens K (0 : Int32) (setA S K t) = some (v, setA S K t') ∧ rep 100000 t' (otl E 4) ∧ fl v (nn (otl E 4)) := by
  have r2 := rg _ hr
  refine ⟨_, gtl 100000 t 4, by rw [q_tightens hK, mt_g], r2, ?_⟩
  exact mv_fl r2
theorem rep_sub {N : Int32} {f : Nat → Int32} {o : Nat} {D : OD} (h : rep N (sub f o) D) {g : ZS} (e : ∀ i, i < 16 → g i = f (o + i)) : rep N g D := fun i hi => by
  rw [e i hi]
  exact h i hi
theorem m_looks (S : MS) {D : OD} (hr : rep 100000 (sub (S.1 0) 0) D) (rg : RG D) : ∃ v t, P_X4_looks S = some (v, setA S 9 t) ∧ rep 100000 t (otl D 4) ∧ fl v (nn (otl D 4)) := by
  have e1 : mov S 0 0 9 0 16 = setA S 9 (fun i => if 0 ≤ i ∧ i < 0 + 16 then S.1 0 (0 + (i - 0)) else S.1 9 i) := rfl
  have r1 : rep 100000 (fun i => if 0 ≤ i ∧ i < 0 + 16 then S.1 0 (0 + (i - 0)) else S.1 9 i) D := rep_sub hr (fun i hi => by
    show (if _ then _ else _) = _
    rw [if_pos (by omega), Nat.sub_zero])
  obtain ⟨v, t, e, r, f⟩ := m_tightens (K := 9) rfl S r1 rg
  refine ⟨v, t, ?_, r, f⟩
  unfold P_X4_looks
  rw [m_carries (K := 0) (K' := 9) (o := 0) (o' := 0) (a := (0 : Int32)) (b := (0 : Int32)) S rfl rfl (by decide) (by decide) (by decide) (by decide) (Or.inl (by decide)), bind_some9, e1, e, pb2_s, fl_okZ f]
  rfl
theorem m_looksAt (S : MS) {k : Nat} (hk : k < 4) {D : OD} (hr : rep 100000 (sub (S.1 0) (16 + 16 * k)) D) (rg : RG D) : ∃ v t, P_X4_looksAt (I32 k) S = some (v, setA S 10 t) ∧ rep 100000 t (otl D 4) ∧ fl v (nn (otl D 4)) := by
  have e1 : mov S 0 (16 + 16 * k) 10 0 16 = setA S 10 (fun i => if 0 ≤ i ∧ i < 0 + 16 then S.1 0 (16 + 16 * k + (i - 0)) else S.1 10 i) := rfl
  have r1 : rep 100000 (fun i => if 0 ≤ i ∧ i < 0 + 16 then S.1 0 (16 + 16 * k + (i - 0)) else S.1 10 i) D := rep_sub hr (fun i hi => by
    show (if _ then _ else _) = _
    rw [if_pos (by omega), Nat.sub_zero])
  obtain ⟨v, t, e, r, f⟩ := m_tightens (K := 10) rfl S r1 rg
  have eo : (16 : Int32) + ((16 : Int32) * I32 k) = I32 (16 + 16 * k) := by
    have : ∀ k, k < 4 → (16 : Int32) + ((16 : Int32) * I32 k) = I32 (16 + 16 * k) := by decide
    exact this k hk
  have h194 : mlen 0 = 194 := rfl
  refine ⟨v, t, ?_, r, f⟩
  unfold P_X4_looksAt
  rw [m_carries (K := 0) (K' := 10) (o := 16 + 16 * k) (o' := 0) (b := (0 : Int32)) S eo rfl (by rw [h194]; omega) (by decide) (by decide) (by decide) (Or.inl (by decide)), bind_some9, e1, e, pb2_s, fl_okZ f]
  rfl
theorem nge3 {k : Nat} (hk : k < 3) : ¬ (3 : Int32) ≤ I32 k := fun q => by
  rw [c3, i32le (by decide) (by omega)] at q
  omega
/-- too late: there are moments, and some clock is above 30 in all -/
def Late (D : OD) : Prop := nn (otl D 4) ∧ ¬ LateF (otl D 4)
theorem m_isTooLate (S : MS) {D : OD} (hr : rep 100000 (sub (S.1 0) 0) D) (rg : RG D) : ∃ v t, P_X4_isTooLate S = some (v, setA S 9 t) ∧ fl v (Late D) := by
  obtain ⟨v, t, e, r, f⟩ := m_looks S hr rg
  have L : ∃ x, lp (fun z => P_X4_isTooLate_B9 v z.1 z.2 (setA S 9 t)) 100000 ((0 : Int32), (0 : Int32)) = some x ∧ fl x (¬ LateF (otl D 4)) := by
    refine lp_inv0 (fun k y => y.2 = I32 k ∧ fl y.1 (∃ j, j < k ∧ ∃ x, otl D 4 (12 + j) = some x ∧ x < -30)) 3 (fun k hk y hy => ?_) (fun y hy => ?_) ⟨rfl, Or.inr ⟨rfl, fun ⟨j, h, _⟩ => absurd h (Nat.not_lt_zero j)⟩⟩ (by decide)
    · obtain ⟨x, i⟩ := y
      obtain ⟨rfl, hf⟩ := hy
      have h1 := r (12 + k) (by omega)
      rcases hf with ⟨rfl, p⟩ | ⟨rfl, p⟩
      · refine ⟨(1, I32 (k + 1)), ?_, rfl, Or.inl ⟨rfl, p.elim fun j q => ⟨j, by omega, q.2⟩⟩⟩
        show P_X4_isTooLate_B9 v 1 (I32 k) (setA S 9 t) = _
        unfold P_X4_isTooLate_B9
        rw [if_neg (nge3 hk), if_neg (by decide), zi4 k (by omega)]
      · refine ⟨_, by
          show P_X4_isTooLate_B9 v 0 (I32 k) (setA S 9 t) = _
          unfold P_X4_isTooLate_B9
          rw [if_neg (nge3 hk), if_pos rfl, rd_i (ix12 (by omega)), bind_some9, setA_get, zi4 k (by omega)], rfl, ?_⟩
        refine fl_congr fl_neg ⟨fun q => ⟨k, by omega, ?_⟩, fun ⟨j, hj, x, hx, h0⟩ q => ?_⟩
        · rw [Int32.le_iff_toInt_le, show (-30 : Int32).toInt = -30 from rfl] at q
          cases hD : otl D 4 (12 + k) with
          | none =>
            rw [hD] at h1
            have h1 : t (12 + k) = 100000 := h1
            rw [h1] at q
            exact absurd (by decide) q
          | some y =>
            rw [hD] at h1
            rw [h1.1] at q
            exact ⟨y, rfl, by omega⟩
        · by_cases ej : j = k
          · subst ej
            rw [hx] at h1
            rw [Int32.le_iff_toInt_le, show (-30 : Int32).toInt = -30 from rfl, h1.1] at q
            omega
          · exact p ⟨j, by omega, x, hx, h0⟩
    · obtain ⟨x, i⟩ := y
      obtain ⟨rfl, hf⟩ := hy
      refine ⟨x, by
        show P_X4_isTooLate_B9 v x (I32 3) (setA S 9 t) = _
        unfold P_X4_isTooLate_B9
        rw [if_pos (by decide)], fl_congr hf ⟨fun ⟨j, hj, y, hy, h0⟩ hn => ?_, fun hn => ?_⟩⟩
      · have := hn j hj y hy
        omega
      · exact Classical.byContradiction fun q => hn fun j hj y hy => Classical.byContradiction fun h => q ⟨j, hj, y, hy, by omega⟩
  obtain ⟨x, ex, fx⟩ := L
  refine ⟨_, t, by
    unfold P_X4_isTooLate
    rw [e, pb2_s, ex, bind_some9], ?_⟩
  refine fl_congr (fl_if0 f (fun _ => ?_)) Iff.rfl
  rw [fl_id fx]
  exact fx
theorem m_isTooFar (S : MS) {D : OD} (hr : rep 100000 (sub (S.1 0) 0) D) : ∃ v, P_X4_isTooFar S = some v ∧ fl v (¬ Great D) := by
  have L : ∃ v, lp (fun z => P_X4_isTooFar_B4 z.1 z.2 S) 100000 ((0 : Int32), (0 : Int32)) = some v ∧ fl v (¬ Great D) := by
    refine lp_inv0 (fun k y => y.2 = I32 k ∧ fl y.1 (∃ j, j < k ∧ ∃ t, D j = some t ∧ 999 < t)) 16 (fun k hk y hy => ?_) (fun y hy => ?_) ⟨rfl, Or.inr ⟨rfl, fun ⟨j, h, _⟩ => absurd h (Nat.not_lt_zero j)⟩⟩ (by decide)
    · obtain ⟨x, i⟩ := y
      obtain ⟨rfl, hf⟩ := hy
      have h1 := hr k hk
      have h1 : rep1 100000 (S.1 0 k) (D k) := by
        have e : sub (S.1 0) 0 k = S.1 0 k := by unfold sub; rw [Nat.zero_add]
        rw [e] at h1
        exact h1
      have hix : ix ((0 : Int32) + I32 k) k (mlen 0) := ix0 (show k < 194 by omega) (by decide)
      have z9 : (999 : Int32).toInt = 999 := rfl
      rcases hf with ⟨rfl, p⟩ | ⟨rfl, p⟩
      · refine ⟨(1, I32 (k + 1)), ?_, rfl, Or.inl ⟨rfl, p.elim fun j q => ⟨j, by omega, q.2⟩⟩⟩
        show P_X4_isTooFar_B4 1 (I32 k) S = _
        unfold P_X4_isTooFar_B4
        rw [if_neg (n16 hk), if_neg (by decide), i32s k (by omega)]
      · by_cases h9 : S.1 0 k ≤ (999 : Int32)
        · refine ⟨(0, I32 (k + 1)), by
            show P_X4_isTooFar_B4 0 (I32 k) S = _
            unfold P_X4_isTooFar_B4
            rw [if_neg (n16 hk), if_pos rfl, rd_i hix, bind_some9, if_pos h9, i32s k (by omega)], rfl, Or.inr ⟨rfl, fun ⟨j, hj, t, ht, h0⟩ => ?_⟩⟩
          by_cases ej : j = k
          · subst ej
            rw [ht] at h1
            rw [Int32.le_iff_toInt_le, h1.1, z9] at h9
            omega
          · exact p ⟨j, by omega, t, ht, h0⟩
        · refine ⟨_, by
            show P_X4_isTooFar_B4 0 (I32 k) S = _
            unfold P_X4_isTooFar_B4
            rw [if_neg (n16 hk), if_pos rfl, rd_i hix, bind_some9, if_neg h9, bind_some9, i32s k (by omega)], rfl, ?_⟩
          refine fl_congr fl_neg ⟨fun q => ⟨k, by omega, ?_⟩, fun ⟨j, hj, t, ht, h0⟩ q => ?_⟩
          · cases hD : D k with
            | none =>
              rw [hD] at h1
              exact absurd h1 q
            | some t =>
              rw [hD] at h1
              rw [Int32.le_iff_toInt_le, h1.1, z9] at h9
              exact ⟨t, rfl, by omega⟩
          · by_cases ej : j = k
            · subst ej
              rw [ht, q] at h1
              have z : (100000 : Int32).toInt = 100000 := rfl
              have := h1.1
              have := h1.2
              omega
            · exact p ⟨j, by omega, t, ht, h0⟩
    · obtain ⟨x, i⟩ := y
      obtain ⟨rfl, hf⟩ := hy
      refine ⟨x, by
        show P_X4_isTooFar_B4 x (I32 16) S = _
        unfold P_X4_isTooFar_B4
        rw [if_pos (by decide)], fl_congr hf ⟨fun ⟨j, hj, t, ht, h0⟩ hn => ?_, fun hn => ?_⟩⟩
      · have := hn j hj t ht
        omega
      · exact Classical.byContradiction fun q => hn fun j hj t ht => Classical.byContradiction fun h => q ⟨j, hj, t, ht, by omega⟩
  obtain ⟨v, e, hf⟩ := L
  refine ⟨v, ?_, hf⟩
  unfold P_X4_isTooFar
  rw [e, bind_some9, fl_okZ hf]
  rfl
theorem dcnt_comm (D E : OD) : ∀ k, dcnt D E k = dcnt E D k
  | 0 => rfl
  | k + 1 => by
    unfold dcnt
    rw [dcnt_comm D E k]
    by_cases h : D k = E k
    · rw [if_pos h, if_pos h.symm]
    · rw [if_neg h, if_neg (fun q => h q.symm)]
theorem m_changed (S : MS) {D B : OD} (hr : rep 100000 (sub (S.1 0) 0) D) (hb : rep 100000 (sub (S.1 1) 0) B) : P_X4_changed S = some (dcnt B D 16) := by
  have L := lp_for0 (B := fun z => P_X4_changed_B4 z.1 z.2 S) (r := dcnt B D 16) (fun k => (dcnt B D k, I32 k)) 16 (fun k hk => by
    have h1 := hr k hk
    have h2 := hb k hk
    have e1 : sub (S.1 0) 0 k = S.1 0 k := by unfold sub; rw [Nat.zero_add]
    have e2 : sub (S.1 1) 0 k = S.1 1 k := by unfold sub; rw [Nat.zero_add]
    rw [e1] at h1
    rw [e2] at h2
    show P_X4_changed_B4 (dcnt B D k) (I32 k) S = _
    unfold P_X4_changed_B4
    rw [if_neg (n16 hk), rd_i (show ix ((0 : Int32) + I32 k) k (mlen 0) from ix0 (show k < 194 by omega) (by decide)), bind_some9, rd_i (show ix ((0 : Int32) + I32 k) k (mlen 1) from ix0 (show k < 194 by omega) (by decide)), bind_some9, i32s k (by omega)]
    have e : (if S.1 0 k = S.1 1 k then (0 : Int32) else (1 : Int32)) = (if B k = D k then (0 : Int32) else (1 : Int32)) := by
      have := rep1_inj n5 h1 h2
      by_cases q : B k = D k
      · rw [if_pos q, if_pos (this.mpr q.symm)]
      · rw [if_neg q, if_neg (fun w => q (this.mp w).symm)]
    rw [e]
    rfl) (by
    show P_X4_changed_B4 (dcnt B D 16) (I32 16) S = _
    unfold P_X4_changed_B4
    rw [if_pos (by decide)]) 100000 (by decide)
  have L2 : lp (fun z => P_X4_changed_B4 z.1 z.2 S) 100000 ((0 : Int32), (0 : Int32)) = some (dcnt B D 16) := L
  unfold P_X4_changed
  rw [L2]
  rfl
