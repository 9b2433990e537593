/-! changes that the model does without go: both sides -/
theorem act_m {h : HH} {x : Nat} {S S3 : MS} {sign r : Int32} {args : Option Nat} {vr : Int32 → Int32 → Prop} {ok1 ok2 : Prop} (o : OKH h) (z : hz0 h) (R : CX h x S) (m : Rm 100 3200 h) (J : ∀ h4, OKH h4 → hz0 h4 → Gr (fun a => a < hSz h) 60 2500 h h4 → DR (hSz h) h4 (hSz h) (S.1 0) → hSz h ≤ hSz h4 → Rm 20 300 h4 → ∃ res h5, F_X1_done (some (hSz h)) sign args h4 = some (res, h5) ∧ Gr (fun a => a < hSz h) 20 300 h4 h5 ∧ ((ok1 ∧ Ref res h5 1 ∧ MF S S3 1) ∨ (ok2 ∧ Ref res h5 2 ∧ MF S S3 2) ∨ ∃ u, res = .inr u ∧ vr u r ∧ MF S S3 0 ∧ DR (hSz h) h5 (hSz h) (S3.1 0) ∧ GoodS (S3.1 0))) : ∃ res h', F_X1_act x sign args h = some (res, h') ∧ Gr (fun _ => False) 120 3400 h h' ∧ KeepX XC h h' ∧ CX h' x S3 ∧ ((ok1 ∧ ∃ q, res = .inl (q, "java/lang/IllegalArgumentException") ∧ S3.2.1 8 = 1) ∨ (ok2 ∧ ∃ q, res = .inl (q, "java/lang/IllegalStateException") ∧ S3.2.1 8 = 2) ∨ ∃ u, res = .inr u ∧ vr u r ∧ S3.2.1 8 = 0) := by
  obtain ⟨h4, o4, g4, D4, hlt, p1, p2⟩ := act_c sign args o z R m
  obtain ⟨res, h5, e1, g5, hc⟩ := J h4 o4 (z.gr o g4 (Nat.le_refl _)) g4 D4 (by omega) ((m.gr g4 (by decide) (by decide)).mono (by decide) (by decide))
  have bad : ∀ (k : Int32), k ≠ 0 → MF S S3 k → ∀ h', Gr (fun a => a < hSz h) 100 3200 h h' → Gr (fun _ => False) 120 3400 h h' ∧ KeepX XC h h' ∧ CX h' x S3 := fun k hk mf h' g => ⟨(g.sub (fun a w => w.elim)).mono (by decide) (by decide), KeepX.gr o g, R.gr o g (mf.sm hk)⟩
  rcases hc with ⟨hk, rf, mf⟩ | ⟨hk, rf, mf⟩ | ⟨u, rfl, hv, mf, D5, G5⟩
  · obtain ⟨q, h', e, g⟩ := p1 _ _ 1 e1 g5 rf
    rw [if_pos rfl] at e
    obtain ⟨b1, b2', b3⟩ := bad 1 (by decide) mf h' g
    exact ⟨_, h', e, b1, b2', b3, Or.inl ⟨hk, q, rfl, mf.1⟩⟩
  · obtain ⟨q, h', e, g⟩ := p1 _ _ 2 e1 g5 rf
    rw [if_neg (by decide)] at e
    obtain ⟨b1, b2', b3⟩ := bad 2 (by decide) mf h' g
    exact ⟨_, h', e, b1, b2', b3, Or.inr (Or.inl ⟨hk, q, rfl, mf.1⟩)⟩
  · obtain ⟨h', e, g, k, R'⟩ := p2 u h5 S3 e1 g5 D5 G5 mf.2.1 mf.2.2.1 mf.2.2.2.1 mf.2.2.2.2.1 (mf.2.2.2.2.2.2 rfl)
    exact ⟨_, h', e, g.mono (by decide) (by decide), k, R', Or.inr (Or.inr ⟨u, rfl, hv, mf.1⟩)⟩
theorem MF1 (S : MS) (k : Int32) (hk : k ≠ 0) : MF S (setI (beg S) 8 k) k := MF_fail (SX.rf _) k (beg_0 S (by decide)) hk
theorem known {h : HH} {x : Nat} {S : MS} (R : CX h x S) : ∃ c, c ≤ 4 ∧ S.2.1 5 = I32 c := by
  obtain ⟨dk, kv, hi, tx, C, hb, D, G, K, ⟨ea, hd, c, q, q1, q2, q3, q4, q5, q6, q7, q8⟩, T⟩ := R
  exact ⟨c, q6, q7⟩
theorem SXset (S : MS) (f : ZS) : SX S (setA S 0 f) := SX.set S f (Or.inl rfl)
theorem isC_noF {n : Nat} {a : Int32} (h : isC n a) (hn : n ≤ 20000) : noF a := by
  obtain ⟨i, hi, rfl⟩ := h
  exact noF_n (by rw [i32t (by omega)]; omega)
section M6
variable {S : MS} {c : Nat} (hc : c ≤ 4) (h5 : S.2.1 5 = I32 c)
/-- the shelf that is laid -/
theorem m_store (G : GoodS (S.1 0)) {k : Nat} (hk : k ≤ 3) (hc : c ≤ 4) (h5 : S.2.1 5 = I32 c) : ∃ S3, P_X4_store (I32 k) S = some ((if S.1 0 (80 + k) = (1 : Int32) then (1 : Int32) else (0 : Int32)), S3) ∧ MF S S3 0 ∧ S3.1 0 (80 + k) = 1 ∧ (∀ i, i < 16 → S3.1 0 (16 + 16 * k + i) = S.1 0 i) ∧ (∀ i, i < 194 → i ≠ 80 + k → ¬ (16 + 16 * k ≤ i ∧ i < 16 + 16 * k + 16) → S3.1 0 i = S.1 0 i) := by
  have e80 : (80 : Int32) + I32 k = I32 (80 + k) := i32add (a := 80) (by omega)
  have e16 : (16 : Int32) + ((16 : Int32) * I32 k) = I32 (16 + 16 * k) := by
    have : ∀ k, k < 4 → (16 : Int32) + ((16 : Int32) * I32 k) = I32 (16 + 16 * k) := by decide
    exact this k (by omega)
  have hix : ix (I32 (80 + k)) (80 + k) (mlen 0) := ix_of _ _ (show 80 + k < 194 by omega) (by decide)
  obtain ⟨S2, eS2⟩ : ∃ S2, S2 = mov (setA (beg S) 0 (upd (S.1 0) (80 + k) 1)) 0 0 0 (16 + 16 * k) 16 := ⟨_, rfl⟩
  have b0 : (beg S).1 0 = S.1 0 := beg_0 S (by decide)
  have sx : SX (beg S) S2 := by
    rw [eS2]
    exact (SXset _ _).tr (SX.mov _ (by decide))
  have g2 : ∀ i, S2.1 0 i = if 16 + 16 * k ≤ i ∧ i < 16 + 16 * k + 16 then S.1 0 (i - (16 + 16 * k)) else if i = 80 + k then 1 else S.1 0 i := fun i => by
    rw [eS2, mov_get, setA_get, Nat.zero_add]
    by_cases h : 16 + 16 * k ≤ i ∧ i < 16 + 16 * k + 16
    · rw [if_pos h, if_pos h]
      unfold upd
      rw [if_neg (by omega)]
    · rw [if_neg h, if_neg h]
      rfl
  have nf : noF (S.1 0 (80 + k)) := by
    rcases G.2.2.1 k (by omega) with q | ⟨q, _⟩ <;> rw [q] <;> exact ⟨by decide, by decide⟩
  obtain ⟨S3, e3, mf, s0⟩ := m_endsR sx nf hc h5
  have h194 : mlen 0 = 194 := rfl
  refine ⟨S3, ?_, mf, ?_, fun i hi => ?_, fun i h1 h2 h3 => ?_⟩
  · unfold P_X4_store
    rw [m_begins, bind_some9, if_neg (fun q => (fl_0 (isSlot_fl (I32 k))).mp q ⟨k, hk, rfl⟩), e80, rd_i hix, bind_some9, wr_i _ hix, bind_some9, b0, m_carries (K := 0) (K' := 0) (o := 0) (o' := 16 + 16 * k) (a := (0 : Int32)) _ rfl e16 (by decide) (by rw [h194]; omega) (by decide) (by decide) (Or.inr (Or.inl (by omega))), bind_some9, ← eS2, e3, pb2_s]
  · rw [s0, g2, if_neg (by omega), if_pos rfl]
  · rw [s0, g2, if_pos (by omega), show 16 + 16 * k + i - (16 + 16 * k) = i by omega]
  · rw [s0, g2, if_neg h3, if_neg h2]
theorem m_setStay (G : GoodS (S.1 0)) {i j : Nat} (hi : i ≤ 5) (hj : j ≤ 2) {a3 : Int32} (h3 : 0 ≤ a3.toInt ∧ a3.toInt ≤ 10) (hc : c ≤ 4) (h5 : S.2.1 5 = I32 c) : ∃ S3, P_X4_setStay (I32 i) (I32 j) a3 S = some (S.1 0 (84 + (3 * i + j)), S3) ∧ MF S S3 0 ∧ S3.1 0 = upd (S.1 0) (84 + (3 * i + j)) a3 := by
  have ea : ((84 : Int32) + ((3 : Int32) * I32 i)) + I32 j = I32 (84 + (3 * i + j)) := by
    have : ∀ i, i < 6 → ∀ j, j < 3 → ((84 : Int32) + ((3 : Int32) * I32 i)) + I32 j = I32 (84 + (3 * i + j)) := by decide
    exact this i (by omega) j (by omega)
  have hix : ix (I32 (84 + (3 * i + j))) (84 + (3 * i + j)) (mlen 0) := ix_of _ _ (show 84 + (3 * i + j) < 194 by omega) (by decide)
  have b0 : (beg S).1 0 = S.1 0 := beg_0 S (by decide)
  obtain ⟨S3, e3, mf, s0⟩ := m_endsR (SXset (beg S) (upd (S.1 0) (84 + (3 * i + j)) a3)) (isC_noF (G.2.2.2.1 (3 * i + j) (by omega)) (by decide)) hc h5
  refine ⟨S3, ?_, mf, by rw [s0, setA_get]⟩
  unfold P_X4_setStay
  rw [m_begins, bind_some9, if_neg (fun q => (fl_0 (isHarbour_fl (I32 i))).mp q ⟨i, hi, rfl⟩), if_neg (fun q => (fl_0 (isClock_fl (I32 j))).mp q ⟨j, hj, rfl⟩), if_neg (fun q => (fl_0 (in_fl a3 0 10)).mp q h3), ea, rd_i hix, bind_some9, wr_i _ hix, bind_some9, b0, e3, pb2_s]
theorem m_setStayF {a1 a2 a3 : Int32} (n : ¬ (isC 5 a1 ∧ isC 2 a2 ∧ 0 ≤ a3.toInt ∧ a3.toInt ≤ 10)) : P_X4_setStay a1 a2 a3 S = some (0, setI (beg S) 8 1) := by
  unfold P_X4_setStay
  rw [m_begins, bind_some9]
  by_cases h1 : F_X4_isHarbour a1 = 0
  · rw [if_pos h1, m_fails, pb2_s]
  · rw [if_neg h1]
    by_cases h2 : F_X4_isClock a2 = 0
    · rw [if_pos h2, m_fails, pb2_s]
    · rw [if_neg h2, if_pos ((fl_0 (in_fl a3 0 10)).mpr (fun q => n ⟨Classical.byContradiction fun z => h1 ((fl_0 (isHarbour_fl a1)).mpr z), Classical.byContradiction fun z => h2 ((fl_0 (isClock_fl a2)).mpr z), q⟩)), m_fails, pb2_s]
theorem lay_at {l k : Nat} (hl : l < 10) (hk : k < 9) : ix (((103 : Int32) + ((9 : Int32) * I32 l)) + I32 k) (103 + 9 * l + k) (mlen 0) := by
  have e : ((103 : Int32) + ((9 : Int32) * I32 l)) + I32 k = I32 (103 + 9 * l + k) := by
    have : ∀ l, l < 10 → ∀ k, k < 9 → ((103 : Int32) + ((9 : Int32) * I32 l)) + I32 k = I32 (103 + 9 * l + k) := by decide
    exact this l hl k hk
  rw [e]
  exact ix_of _ _ (show 103 + 9 * l + k < 194 by omega) (by decide)
theorem m_lays (S : MS) {l k : Nat} (hl : l < 10) (hk : k < 9) (v : Int32) : P_X4_lays (I32 l) (I32 k) v S = some (setA S 0 (upd (S.1 0) (103 + 9 * l + k) v)) := by
  unfold P_X4_lays
  rw [wr_i v (lay_at hl hk)]
  rfl
theorem m_line (S : MS) {l k : Nat} (hl : l < 10) (hk : k < 9) : P_X4_line (I32 l) (I32 k) S = some (S.1 0 (103 + 9 * l + k)) := by
  unfold P_X4_line
  rw [rd_i (lay_at hl hk)]
  rfl
theorem i102 : ix (102 : Int32) 102 (mlen 0) := ⟨by decide, by decide, by decide⟩
theorem m_isLine (S : MS) {N : Nat} (hN : S.1 0 102 = I32 N) (a1 : Int32) : P_X4_isLine a1 S = some (F_X4_in a1 0 (I32 N - (1 : Int32))) := by
  unfold P_X4_isLine
  rw [rd_i i102, bind_some9, hN]
def addS (s : Nat → Int32) (N : Nat) (a1 a2 : Int32) (j : Nat) : Nat → Int32 := match j with
  | 0 => upd (upd s (103 + 9 * N + 0) a1) (103 + 9 * N + 1) a2
  | j + 1 => upd (addS s N a1 a2 j) (103 + 9 * N + (5 + j)) 10
theorem m_addLine {N : Nat} (hN : S.1 0 102 = I32 N) (hN9 : N < 10) {a1 a2 : Int32} (h1 : isC 5 a1) (h2 : isC 5 a2) (hc : c ≤ 4) (h5 : S.2.1 5 = I32 c) : ∃ S3, P_X4_addLine a1 a2 S = some (I32 N, S3) ∧ MF S S3 0 ∧ S3.1 0 = upd (addS (S.1 0) N a1 a2 3) 102 (I32 (N + 1)) := by
  have b0 : (beg S).1 0 = S.1 0 := beg_0 S (by decide)
  have L : lp (fun z => P_X4_addLine_B61 a1 a2 (I32 N) z.1 z.2) 100000 ((0 : Int32), setA (beg S) 0 (addS (S.1 0) N a1 a2 0)) = some (setA (beg S) 0 (addS (S.1 0) N a1 a2 3)) := by
    refine lp_for0 (fun j => (I32 j, setA (beg S) 0 (addS (S.1 0) N a1 a2 j))) 3 (fun j hj => ?_) ?_ 100000 (by decide)
    · show P_X4_addLine_B61 a1 a2 (I32 N) (I32 j) (setA (beg S) 0 (addS (S.1 0) N a1 a2 j)) = _
      unfold P_X4_addLine_B61
      rw [if_neg (nge3 hj), show (5 : Int32) = I32 5 from rfl, i32add (by omega), m_lays _ hN9 (by omega), bind_some9, zi4 j (by omega), setA_get, setA_set]
      rfl
    · show P_X4_addLine_B61 a1 a2 (I32 N) (I32 3) _ = _
      unfold P_X4_addLine_B61
      rw [if_pos (by decide)]
  have nf : noF (I32 N) := noF_n (by rw [i32t (by omega)]; omega)
  obtain ⟨S3, e3, mf, s0⟩ := m_endsR (SXset (beg S) (upd (addS (S.1 0) N a1 a2 3) 102 (I32 (N + 1)))) nf hc h5
  have e102 : addS (S.1 0) N a1 a2 3 102 = I32 N := by
    unfold addS addS addS addS upd
    rw [if_neg (by omega), if_neg (by omega), if_neg (by omega), if_neg (by omega), if_neg (by omega)]
    exact hN
  refine ⟨S3, ?_, mf, by rw [s0, setA_get]⟩
  unfold P_X4_addLine
  rw [m_begins, bind_some9, if_neg (fun q => (fl_0 (isHarbour_fl a1)).mp q h1), if_neg (fun q => (fl_0 (isHarbour_fl a2)).mp q h2), rd_i i102, bind_some9, b0, hN, if_neg (fun q => by have := i32inj (by omega) (by decide) (show I32 N = I32 10 from q); omega), show (0 : Int32) = I32 0 from rfl, m_lays _ hN9 (by decide), bind_some9, show (1 : Int32) = I32 1 from rfl, m_lays _ hN9 (by decide), bind_some9, setA_get, setA_set, b0]
  show Option.bind (lp (fun z => P_X4_addLine_B61 a1 a2 (I32 N) z.1 z.2) 100000 ((0 : Int32), setA (beg S) 0 (addS (S.1 0) N a1 a2 0))) _ = _
  rw [L, bind_some9, rd_i i102, bind_some9, wr_i _ i102, bind_some9, setA_get, setA_set, e102, i32add (by omega), e3, pb2_s]
theorem m_addLineF1 {a1 a2 : Int32} (n : ¬ (isC 5 a1 ∧ isC 5 a2)) : P_X4_addLine a1 a2 S = some (0, setI (beg S) 8 1) := by
  unfold P_X4_addLine
  rw [m_begins, bind_some9]
  by_cases h1 : F_X4_isHarbour a1 = 0
  · rw [if_pos h1, m_fails, pb2_s]
  · rw [if_neg h1, if_pos ((fl_0 (isHarbour_fl a2)).mpr (fun q => n ⟨Classical.byContradiction fun z => h1 ((fl_0 (isHarbour_fl a1)).mpr z), q⟩)), m_fails, pb2_s]
theorem m_addLineF2 {a1 a2 : Int32} (hN : S.1 0 102 = I32 10) (h1 : isC 5 a1) (h2 : isC 5 a2) : P_X4_addLine a1 a2 S = some (0, setI (beg S) 8 2) := by
  have b0 : (beg S).1 0 = S.1 0 := beg_0 S (by decide)
  unfold P_X4_addLine
  rw [m_begins, bind_some9, if_neg (fun q => (fl_0 (isHarbour_fl a1)).mp q h1), if_neg (fun q => (fl_0 (isHarbour_fl a2)).mp q h2), rd_i i102, bind_some9, b0, hN, if_pos (show I32 10 = (10 : Int32) from rfl), m_fails, pb2_s]
theorem m_setNeed {N : Nat} (G : GoodS (S.1 0)) (hN : S.1 0 102 = I32 N) (hN2 : N ≤ 10) {a3 a4 : Int32} {l j : Nat} (hl : l < N) (hj : j ≤ 2) (p : wntP N (I32 l) (I32 j) a3 a4) (hc : c ≤ 4) (h5 : S.2.1 5 = I32 c) : ∃ S3, P_X4_setNeed (I32 l) (I32 j) a3 a4 S = some (S.1 0 (105 + 9 * l + j), S3) ∧ MF S S3 0 ∧ S3.1 0 = upd (upd (S.1 0) (105 + 9 * l + j) a3) (108 + 9 * l + j) a4 := by
  have b0 : (beg S).1 0 = S.1 0 := beg_0 S (by decide)
  obtain ⟨p1, p2, p3, p4⟩ := p
  obtain ⟨N', q1, q2, q3, _⟩ := G.2.2.2.2
  have := i32inj (by omega) (by omega) (hN.symm.trans q2)
  subst this
  have nf : noF (S.1 0 (105 + 9 * l + j)) := isC_noF (((q3 l hl).2.2.1 j (by omega)).1) (by decide)
  obtain ⟨S3, e3, mf, s0⟩ := m_endsR (SXset (beg S) (upd (upd (S.1 0) (105 + 9 * l + j) a3) (108 + 9 * l + j) a4)) nf hc h5
  refine ⟨S3, ?_, mf, by rw [s0, setA_get]⟩
  unfold P_X4_setNeed
  rw [m_begins, bind_some9, m_isLine (beg S) (N := N) (by rw [b0]; exact hN), bind_some9, if_neg (fun q => (fl_0 (isL_fl hN2 (I32 l))).mp q p1), if_neg (fun q => (fl_0 (isClock_fl (I32 j))).mp q p2), if_neg (fun q => (fl_0 (in_fl a3 0 9)).mp q p3), if_neg (fun q => (fl_0 (in_fl a4 a3 10)).mp q p4), show (2 : Int32) = I32 2 from rfl, show (5 : Int32) = I32 5 from rfl, i32add (by omega), i32add (by omega), m_line _ (by omega) (by omega), bind_some9, m_lays _ (by omega) (by omega), bind_some9, m_lays _ (by omega) (by omega), bind_some9, setA_get, setA_set, b0, show 103 + 9 * l + (2 + j) = 105 + 9 * l + j by omega, show 103 + 9 * l + (5 + j) = 108 + 9 * l + j by omega, e3, pb2_s]
theorem m_setNeedF {N : Nat} (hN : S.1 0 102 = I32 N) (hN2 : N ≤ 10) {a1 a2 a3 a4 : Int32} (n : ¬ wntP N a1 a2 a3 a4) : P_X4_setNeed a1 a2 a3 a4 S = some (0, setI (beg S) 8 1) := by
  have b0 : (beg S).1 0 = S.1 0 := beg_0 S (by decide)
  unfold P_X4_setNeed
  rw [m_begins, bind_some9, m_isLine (beg S) (N := N) (by rw [b0]; exact hN), bind_some9]
  by_cases h1 : F_X4_in a1 0 (I32 N - (1 : Int32)) = 0
  · rw [if_pos h1, m_fails, pb2_s]
  · rw [if_neg h1]
    by_cases h2 : F_X4_isClock a2 = 0
    · rw [if_pos h2, m_fails, pb2_s]
    · rw [if_neg h2]
      by_cases h3 : F_X4_in a3 0 9 = 0
      · rw [if_pos h3, m_fails, pb2_s]
      · rw [if_neg h3, if_pos ((fl_0 (in_fl a4 a3 10)).mpr (fun q => n ⟨Classical.byContradiction fun z => h1 ((fl_0 (isL_fl hN2 a1)).mpr z), Classical.byContradiction fun z => h2 ((fl_0 (isClock_fl a2)).mpr z), Classical.byContradiction fun z => h3 ((fl_0 (in_fl a3 0 9)).mpr z), q⟩)), m_fails, pb2_s]
theorem m_turnReset {N : Nat} (G : GoodS (S.1 0)) (hN : S.1 0 102 = I32 N) (hN2 : N ≤ 10) {l : Nat} {a2 : Int32} (hl : l < N) (h2 : isC 2 a2) (hc : c ≤ 4) (h5 : S.2.1 5 = I32 c) : ∃ S3, P_X4_turnReset (I32 l) a2 S = some (bitOf (S.1 0 (111 + 9 * l) ^^^ ((1 : Int32) <<< (a2 &&& 31))) a2, S3) ∧ MF S S3 0 ∧ S3.1 0 = upd (S.1 0) (111 + 9 * l) (S.1 0 (111 + 9 * l) ^^^ ((1 : Int32) <<< (a2 &&& 31))) := by
  have b0 : (beg S).1 0 = S.1 0 := beg_0 S (by decide)
  have nf : noF (((S.1 0 (111 + 9 * l) ^^^ ((1 : Int32) <<< (a2 &&& 31))) >>> (a2 &&& 31)) &&& (1 : Int32)) := by
    obtain ⟨j, hj, rfl⟩ := h2
    obtain ⟨N', q1, q2, q3, _⟩ := G.2.2.2.2
    have := i32inj (by omega) (by omega) (hN.symm.trans q2)
    subst this
    obtain ⟨v, hv, e⟩ := (q3 l hl).2.2.2
    rw [e]
    have h : ∀ v, v < 8 → ∀ j, j < 3 → (((I32 v ^^^ ((1 : Int32) <<< (I32 j &&& 31))) >>> (I32 j &&& 31)) &&& (1 : Int32)) = 0 ∨ (((I32 v ^^^ ((1 : Int32) <<< (I32 j &&& 31))) >>> (I32 j &&& 31)) &&& (1 : Int32)) = 1 := by decide
    rcases h v (by omega) j (by omega) with q | q <;> rw [q] <;> exact ⟨by decide, by decide⟩
  obtain ⟨S3, e3, mf, s0⟩ := m_endsR (SXset (beg S) (upd (S.1 0) (111 + 9 * l) (S.1 0 (111 + 9 * l) ^^^ ((1 : Int32) <<< (a2 &&& 31))))) nf hc h5
  refine ⟨S3, ?_, mf, by rw [s0, setA_get]⟩
  unfold P_X4_turnReset
  rw [m_begins, bind_some9, m_isLine (beg S) (N := N) (by rw [b0]; exact hN), bind_some9, if_neg (fun q => (fl_0 (isL_fl hN2 (I32 l))).mp q ⟨l, hl, rfl⟩), if_neg (fun q => (fl_0 (isClock_fl a2)).mp q h2), show (8 : Int32) = I32 8 from rfl, m_line _ (by omega) (by omega), bind_some9, m_lays _ (by omega) (by omega), bind_some9, b0, show 103 + 9 * l + 8 = 111 + 9 * l by omega, e3, pb2_s]
  rfl
theorem m_turnResetF {N : Nat} (hN : S.1 0 102 = I32 N) (hN2 : N ≤ 10) {a1 a2 : Int32} (n : ¬ (isL N a1 ∧ isC 2 a2)) : P_X4_turnReset a1 a2 S = some (0, setI (beg S) 8 1) := by
  have b0 : (beg S).1 0 = S.1 0 := beg_0 S (by decide)
  unfold P_X4_turnReset P_X4_turnReset_T19
  rw [m_begins, bind_some9, m_isLine (beg S) (N := N) (by rw [b0]; exact hN), bind_some9, m_fails, pb2_s]
  by_cases h1 : F_X4_in a1 0 (I32 N - (1 : Int32)) = 0
  · rw [if_pos h1]
    rfl
  · rw [if_neg h1, if_pos ((fl_0 (isClock_fl a2)).mpr (fun q => n ⟨Classical.byContradiction fun z => h1 ((fl_0 (isL_fl hN2 a1)).mpr z), q⟩))]
    rfl
theorem m_storeF {a1 : Int32} (n : ¬ isC 3 a1) : P_X4_store a1 S = some (0, setI (beg S) 8 1) := by
  unfold P_X4_store
  rw [m_begins, bind_some9, if_pos ((fl_0 (isSlot_fl a1)).mpr n), m_fails, pb2_s]
  rfl
end M6
