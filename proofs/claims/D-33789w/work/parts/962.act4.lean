/-! both sides of the changes to shelves, stays and lines -/
def JM (S S3 : MS) (r : Int32) (vr : Int32 → Int32 → Prop) (ok2 : Prop) (F : Nat → HH → Option (((Nat × String) ⊕ Int32) × HH)) : Prop := ∀ n h4 t, OKH h4 → hz0 h4 → DR n h4 t (S.1 0) → n ≤ hSz h4 → Rm 20 300 h4 → ∃ res h5, F t h4 = some (res, h5) ∧ Gr (fun a => a < n) 20 300 h4 h5 ∧ ((Ref res h5 1 ∧ MF S S3 1) ∨ (ok2 ∧ Ref res h5 2 ∧ MF S S3 2) ∨ ∃ u, res = .inr u ∧ vr u r ∧ MF S S3 0 ∧ DR n h5 t (S3.1 0) ∧ GoodS (S3.1 0))
def vrS (u r : Int32) : Prop := r = if u = (1 : Int32) then (1 : Int32) else (0 : Int32)
theorem GoodS.parts {s s' : Nat → Int32} (G : GoodS s) (hz : ∀ i, i < 16 → s' i = s i) (hs : ShG s') (ht : ∀ i, i < 18 → isC 10 (s' (84 + i))) (hl : LiG s') : GoodS s' := ⟨Zs_eq (fun i hi => by rw [Nat.zero_add]; exact hz i hi) G.1, G.2.1.congr (Zs_congr (fun i hi => by rw [Nat.zero_add]; exact hz i hi)), hs, ht, hl⟩
theorem g_store {s s' : Nat → Int32} {k : Nat} (hk : k ≤ 3) (G : GoodS s) (e1 : s' (80 + k) = 1) (e2 : ∀ i, i < 16 → s' (16 + 16 * k + i) = s i) (e3 : ∀ i, i < 194 → i ≠ 80 + k → ¬ (16 + 16 * k ≤ i ∧ i < 16 + 16 * k + 16) → s' i = s i) : GoodS s' := by
  refine G.parts (fun i hi => e3 i (by omega) (by omega) (by omega)) (fun j hj => ?_) (fun i hi => by rw [e3 _ (by omega) (by omega) (by omega)]; exact G.2.2.2.1 i hi) (G.2.2.2.2.congr (fun i h1 h2 => e3 i (by omega) (by omega) (by omega)))
  by_cases ej : j = k
  · subst ej
    have e0 : ∀ i, i < 16 → s' (16 + 16 * j + i) = s (0 + i) := fun i hi => by rw [e2 i hi, Nat.zero_add]
    exact Or.inr ⟨e1, Zs_eq e0 G.1, G.2.1.congr (Zs_congr e0)⟩
  · have e0 : ∀ i, i < 16 → s' (16 + 16 * j + i) = s (16 + 16 * j + i) := fun i hi => e3 _ (by omega) (by omega) (by omega)
    rw [e3 (80 + j) (by omega) (by omega) (by omega)]
    rcases G.2.2.1 j hj with q | ⟨q1, q2, q3⟩
    · exact Or.inl q
    · exact Or.inr ⟨q1, Zs_eq e0 q2, q3.congr (Zs_congr e0)⟩
section JMS
variable {S : MS} {c : Nat}
theorem jm_store (a1 : Int32) (G : GoodS (S.1 0)) (hc : c ≤ 4) (h5 : S.2.1 5 = I32 c) : ∃ r S3, P_X4_store a1 S = some (r, S3) ∧ JM S S3 r vrS False (fun t h => F_X2_puts t a1 h) := by
  by_cases hp : isC 3 a1
  · obtain ⟨k, hk, rfl⟩ := hp
    obtain ⟨S3, eM, mf, s1, s2, s3⟩ := m_store G hk hc h5
    refine ⟨_, S3, eM, fun n h4 t o z D hn m => ?_⟩
    obtain ⟨res, h5', e, g, p1, p2⟩ := a_puts (I32 k) o D (m.mono (by decide) (by decide)) hn
    obtain ⟨q1, q2⟩ := p2 k hk rfl
    exact ⟨res, h5', e, g.mono (by decide) (by decide), Or.inr (Or.inr ⟨_, q1, rfl, mf, q2 _ s1 s2 s3, g_store hk G s1 s2 s3⟩)⟩
  · refine ⟨_, _, m_storeF hp, fun n h4 t o z D hn m => ?_⟩
    obtain ⟨res, h5', e, g, p1, p2⟩ := a_puts a1 o D (m.mono (by decide) (by decide)) hn
    exact ⟨res, h5', e, g.mono (by decide) (by decide), Or.inl ⟨p1 hp, MF1 S 1 (by decide)⟩⟩
theorem isC_of {n : Nat} {a : Int32} (hn : n ≤ 20000) (h0 : 0 ≤ a.toInt) (h1 : a.toInt ≤ n) : isC n a := nat_of h0 h1 hn
theorem jm_setStay (a1 a2 a3 : Int32) (G : GoodS (S.1 0)) (hc : c ≤ 4) (h5 : S.2.1 5 = I32 c) : ∃ r S3, P_X4_setStay a1 a2 a3 S = some (r, S3) ∧ JM S S3 r vrE False (fun t h => F_X2_allows t a1 a2 a3 h) := by
  by_cases hp : isC 5 a1 ∧ isC 2 a2 ∧ 0 ≤ a3.toInt ∧ a3.toInt ≤ 10
  · obtain ⟨⟨i, hi, rfl⟩, ⟨j, hj, rfl⟩, h3⟩ := hp
    obtain ⟨S3, eM, mf, s0⟩ := m_setStay G hi hj h3 hc h5
    have f1 : S3.1 0 (84 + (3 * i + j)) = a3 := by rw [s0]; unfold upd; rw [if_pos rfl]
    have f2 : ∀ k, k < 194 → k ≠ 84 + (3 * i + j) → S3.1 0 k = S.1 0 k := fun k _ hk => by rw [s0]; unfold upd; rw [if_neg hk]
    refine ⟨_, S3, eM, fun n h4 t o z D hn m => ?_⟩
    obtain ⟨res, h5', e, g, p1, p2⟩ := a_allows (I32 i) (I32 j) a3 o D (m.mono (by decide) (by decide)) hn
    obtain ⟨q1, q2⟩ := p2 i j hi hj rfl rfl h3
    refine ⟨res, h5', e, g.mono (by decide) (by decide), Or.inr (Or.inr ⟨_, q1, rfl, mf, q2 _ f1 f2, G.parts (fun k hk => f2 k (by omega) (by omega)) (G.2.2.1.congr (fun k h1 h2 => f2 k (by omega) (by omega))) (fun k hk => ?_) (G.2.2.2.2.congr (fun k h1 h2 => f2 k (by omega) (by omega)))⟩)⟩
    by_cases ek : k = 3 * i + j
    · rw [ek, f1]
      exact isC_of (n := 10) (by decide) h3.1 h3.2
    · rw [f2 _ (by omega) (by omega)]
      exact G.2.2.2.1 k hk
  · refine ⟨_, _, m_setStayF hp, fun n h4 t o z D hn m => ?_⟩
    obtain ⟨res, h5', e, g, p1, p2⟩ := a_allows a1 a2 a3 o D (m.mono (by decide) (by decide)) hn
    exact ⟨res, h5', e, g.mono (by decide) (by decide), Or.inl ⟨p1 hp, MF1 S 1 (by decide)⟩⟩
theorem addS_at (s : Nat → Int32) {N : Nat} (a1 a2 : Int32) (i : Nat) : upd (addS s N a1 a2 3) 102 (I32 (N + 1)) i = if i = 102 then I32 (N + 1) else if i = 103 + 9 * N then a1 else if i = 104 + 9 * N then a2 else if 108 + 9 * N ≤ i ∧ i < 111 + 9 * N then 10 else s i := by
  unfold addS addS addS addS upd
  by_cases h0 : i = 102
  · rw [if_pos h0, if_pos h0]
  · rw [if_neg h0, if_neg h0]
    by_cases h1 : i = 103 + 9 * N
    · rw [if_pos h1, if_neg (by omega), if_neg (by omega), if_neg (by omega), if_neg (by omega), if_pos (by omega)]
    · rw [if_neg h1]
      by_cases h2 : i = 104 + 9 * N
      · rw [if_pos h2, if_neg (by omega), if_neg (by omega), if_neg (by omega), if_pos (by omega)]
      · rw [if_neg h2]
        by_cases h3 : 108 + 9 * N ≤ i ∧ i < 111 + 9 * N
        · rw [if_pos h3]
          have : i = 103 + 9 * N + (5 + 2) ∨ i = 103 + 9 * N + (5 + 1) ∨ i = 103 + 9 * N + (5 + 0) := by omega
          rcases this with q | q | q
          · rw [if_pos q]
          · rw [if_neg (by omega), if_pos q]
          · rw [if_neg (by omega), if_neg (by omega), if_pos q]
        · rw [if_neg h3, if_neg (by omega), if_neg (by omega), if_neg (by omega), if_neg (by omega), if_neg (by omega)]
theorem jm_addLine (a1 a2 : Int32) (G : GoodS (S.1 0)) (hc : c ≤ 4) (h5 : S.2.1 5 = I32 c) : ∃ r S3, P_X4_addLine a1 a2 S = some (r, S3) ∧ JM S S3 r vrE True (fun t h => F_X2_getsLine t a1 a2 h) := by
  obtain ⟨N, hN2, hN, g3, g4⟩ := G.2.2.2.2
  by_cases hp : isC 5 a1 ∧ isC 5 a2
  · by_cases h10 : N = 10
    · subst h10
      refine ⟨_, _, m_addLineF2 hN hp.1 hp.2, fun n h4 t o z D hn m => ?_⟩
      obtain ⟨res, h5', e, g, p1, p2⟩ := a_getsLine a1 a2 o z D hN hN2 (m.mono (by decide) (by decide)) hn
      exact ⟨res, h5', e, g.mono (by decide) (by decide), Or.inr (Or.inl ⟨True.intro, (p2 hp).1 rfl, MF1 S 2 (by decide)⟩)⟩
    · have hN9 : N < 10 := by omega
      obtain ⟨S3, eM, mf, s0⟩ := m_addLine hN hN9 hp.1 hp.2 hc h5
      have at_ : ∀ i, S3.1 0 i = if i = 102 then I32 (N + 1) else if i = 103 + 9 * N then a1 else if i = 104 + 9 * N then a2 else if 108 + 9 * N ≤ i ∧ i < 111 + 9 * N then 10 else S.1 0 i := fun i => by rw [s0]; exact addS_at _ a1 a2 i
      obtain ⟨z1, z2⟩ := g4 N (Nat.le_refl _) hN9
      have f0 : S3.1 0 102 = I32 (N + 1) := by rw [at_, if_pos rfl]
      have f1 : S3.1 0 (103 + 9 * N) = a1 := by rw [at_, if_neg (by omega), if_pos rfl]
      have f2 : S3.1 0 (104 + 9 * N) = a2 := by rw [at_, if_neg (by omega), if_neg (by omega), if_pos rfl]
      have f3 : S3.1 0 (111 + 9 * N) = 0 := by rw [at_, if_neg (by omega), if_neg (by omega), if_neg (by omega), if_neg (by omega)]; exact z2
      have f4 : ∀ j, j < 3 → S3.1 0 (105 + 9 * N + j) = 0 ∧ S3.1 0 (108 + 9 * N + j) = 10 := fun j hj => ⟨by rw [at_, if_neg (by omega), if_neg (by omega), if_neg (by omega), if_neg (by omega)]; exact z1 j hj, by rw [at_, if_neg (by omega), if_neg (by omega), if_neg (by omega), if_pos (by omega)]⟩
      have f5 : ∀ j, j < 194 → j ≠ 102 → j < 103 + 9 * N ∨ 112 + 9 * N ≤ j → S3.1 0 j = S.1 0 j := fun j _ h1 h2 => by rw [at_, if_neg h1, if_neg (by omega), if_neg (by omega), if_neg (by omega)]
      have GG : GoodS (S3.1 0) := by
        refine G.parts (fun i hi => f5 i (by omega) (by omega) (by omega)) (G.2.2.1.congr (fun i h1 h2 => f5 i (by omega) (by omega) (by omega))) (fun i hi => by rw [f5 _ (by omega) (by omega) (by omega)]; exact G.2.2.2.1 i hi) ⟨N + 1, by omega, f0, fun l hl => ?_, fun l hl hl2 => ?_⟩
        · by_cases el : l = N
          · subst el
            refine ⟨by rw [f1]; exact hp.1, by rw [f2]; exact hp.2, fun j hj => ⟨by rw [(f4 j hj).1]; exact ⟨0, by decide, rfl⟩, by rw [(f4 j hj).2]; exact ⟨10, by decide, rfl⟩⟩, by rw [f3]; exact ⟨0, by decide, rfl⟩⟩
          · obtain ⟨x1, x2, x3, x4⟩ := g3 l (by omega)
            exact ⟨by rw [f5 _ (by omega) (by omega) (by omega)]; exact x1, by rw [f5 _ (by omega) (by omega) (by omega)]; exact x2, fun j hj => ⟨by rw [f5 _ (by omega) (by omega) (by omega)]; exact (x3 j hj).1, by rw [f5 _ (by omega) (by omega) (by omega)]; exact (x3 j hj).2⟩, by rw [f5 _ (by omega) (by omega) (by omega)]; exact x4⟩
        · obtain ⟨w1, w2⟩ := g4 l (by omega) hl2
          exact ⟨fun j hj => by rw [f5 _ (by omega) (by omega) (by omega)]; exact w1 j hj, by rw [f5 _ (by omega) (by omega) (by omega)]; exact w2⟩
      refine ⟨_, S3, eM, fun n h4 t o z D hn m => ?_⟩
      obtain ⟨res, h5', e, g, p1, p2⟩ := a_getsLine a1 a2 o z D hN hN2 (m.mono (by decide) (by decide)) hn
      obtain ⟨q1, q2⟩ := (p2 hp).2 hN9
      exact ⟨res, h5', e, g.mono (by decide) (by decide), Or.inr (Or.inr ⟨_, q1, rfl, mf, q2 _ f0 f1 f2 f3 f4 f5, GG⟩)⟩
  · refine ⟨_, _, m_addLineF1 hp, fun n h4 t o z D hn m => ?_⟩
    obtain ⟨res, h5', e, g, p1, p2⟩ := a_getsLine a1 a2 o z D hN hN2 (m.mono (by decide) (by decide)) hn
    exact ⟨res, h5', e, g.mono (by decide) (by decide), Or.inl ⟨p1 hp, MF1 S 1 (by decide)⟩⟩
theorem jm_setNeed (a1 a2 a3 a4 : Int32) (G : GoodS (S.1 0)) (hc : c ≤ 4) (h5 : S.2.1 5 = I32 c) : ∃ r S3, P_X4_setNeed a1 a2 a3 a4 S = some (r, S3) ∧ JM S S3 r vrE False (fun t h => F_X2_wants t a1 a2 a3 a4 h) := by
  obtain ⟨N, hN2, hN, g3, g4⟩ := G.2.2.2.2
  by_cases hp : wntP N a1 a2 a3 a4
  · obtain ⟨⟨l, hl, e1⟩, ⟨j, hj, e2⟩, h3, h4⟩ := id hp
    subst e1
    subst e2
    obtain ⟨S3, eM, mf, s0⟩ := m_setNeed G hN hN2 hl hj hp hc h5
    have at_ : ∀ i, S3.1 0 i = if i = 108 + 9 * l + j then a4 else if i = 105 + 9 * l + j then a3 else S.1 0 i := fun i => by rw [s0]; rfl
    have f1 : S3.1 0 (105 + 9 * l + j) = a3 := by rw [at_, if_neg (by omega), if_pos rfl]
    have f2 : S3.1 0 (108 + 9 * l + j) = a4 := by rw [at_, if_pos rfl]
    have f3 : ∀ i, i < 194 → i ≠ 105 + 9 * l + j → i ≠ 108 + 9 * l + j → S3.1 0 i = S.1 0 i := fun i _ h1 h2 => by rw [at_, if_neg h2, if_neg h1]
    have GG : GoodS (S3.1 0) := by
      refine G.parts (fun i hi => f3 i (by omega) (by omega) (by omega)) (G.2.2.1.congr (fun i h1 h2 => f3 i (by omega) (by omega) (by omega))) (fun i hi => by rw [f3 _ (by omega) (by omega) (by omega)]; exact G.2.2.2.1 i hi) ⟨N, hN2, by rw [f3 _ (by omega) (by omega) (by omega)]; exact hN, fun k hk => ?_, fun k hk hk2 => ?_⟩
      · obtain ⟨x1, x2, x3, x4⟩ := g3 k hk
        refine ⟨by rw [f3 _ (by omega) (by omega) (by omega)]; exact x1, by rw [f3 _ (by omega) (by omega) (by omega)]; exact x2, fun i hi => ⟨?_, ?_⟩, by rw [f3 _ (by omega) (by omega) (by omega)]; exact x4⟩
        · by_cases q : k = l ∧ i = j
          · rw [q.1, q.2, f1]
            exact isC_of (n := 9) (by decide) h3.1 h3.2
          · rw [f3 _ (by omega) (by omega) (by omega)]
            exact (x3 i hi).1
        · by_cases q : k = l ∧ i = j
          · rw [q.1, q.2, f2]
            exact isC_of (n := 10) (by decide) (by omega) h4.2
          · rw [f3 _ (by omega) (by omega) (by omega)]
            exact (x3 i hi).2
      · obtain ⟨w1, w2⟩ := g4 k hk hk2
        exact ⟨fun i hi => by rw [f3 _ (by omega) (by omega) (by omega)]; exact w1 i hi, by rw [f3 _ (by omega) (by omega) (by omega)]; exact w2⟩
    refine ⟨_, S3, eM, fun n h4 t o z D hn m => ?_⟩
    obtain ⟨res, h5', e, g, p1, p2⟩ := a_wants (I32 l) (I32 j) a3 a4 o D hN hN2 (m.mono (by decide) (by decide)) hn
    obtain ⟨q1, q2⟩ := p2 l j hl hj rfl rfl hp
    exact ⟨res, h5', e, g.mono (by decide) (by decide), Or.inr (Or.inr ⟨_, q1, rfl, mf, q2 _ f1 f2 f3, GG⟩)⟩
  · refine ⟨_, _, m_setNeedF hN hN2 hp, fun n h4 t o z D hn m => ?_⟩
    obtain ⟨res, h5', e, g, p1, p2⟩ := a_wants a1 a2 a3 a4 o D hN hN2 (m.mono (by decide) (by decide)) hn
    exact ⟨res, h5', e, g.mono (by decide) (by decide), Or.inl ⟨p1 hp, MF1 S 1 (by decide)⟩⟩
theorem bitOf_01 (x a : Int32) : bitOf x a = if bitOf x a = (1 : Int32) then (1 : Int32) else (0 : Int32) := by
  unfold bitOf
  split <;> rfl
theorem jm_turnReset (a1 a2 : Int32) (G : GoodS (S.1 0)) (hc : c ≤ 4) (h5 : S.2.1 5 = I32 c) : ∃ r S3, P_X4_turnReset a1 a2 S = some (r, S3) ∧ JM S S3 r vrS False (fun t h => F_X2_turnsReset t a1 a2 h) := by
  obtain ⟨N, hN2, hN, g3, g4⟩ := G.2.2.2.2
  by_cases hp : isL N a1 ∧ isC 2 a2
  · obtain ⟨⟨l, hl, rfl⟩, h2⟩ := hp
    obtain ⟨S3, eM, mf, s0⟩ := m_turnReset G hN hN2 hl h2 hc h5
    have f1 : S3.1 0 (111 + 9 * l) = S.1 0 (111 + 9 * l) ^^^ ((1 : Int32) <<< (a2 &&& 31)) := by rw [s0]; unfold upd; rw [if_pos rfl]
    have f3 : ∀ i, i < 194 → i ≠ 111 + 9 * l → S3.1 0 i = S.1 0 i := fun i _ h1 => by rw [s0]; unfold upd; rw [if_neg h1]
    have GG : GoodS (S3.1 0) := by
      refine G.parts (fun i hi => f3 i (by omega) (by omega)) (G.2.2.1.congr (fun i h1 h2 => f3 i (by omega) (by omega))) (fun i hi => by rw [f3 _ (by omega) (by omega)]; exact G.2.2.2.1 i hi) ⟨N, hN2, by rw [f3 _ (by omega) (by omega)]; exact hN, fun k hk => ?_, fun k hk hk2 => ?_⟩
      · obtain ⟨x1, x2, x3, x4⟩ := g3 k hk
        refine ⟨by rw [f3 _ (by omega) (by omega)]; exact x1, by rw [f3 _ (by omega) (by omega)]; exact x2, fun i hi => ⟨by rw [f3 _ (by omega) (by omega)]; exact (x3 i hi).1, by rw [f3 _ (by omega) (by omega)]; exact (x3 i hi).2⟩, ?_⟩
        by_cases q : k = l
        · subst q
          rw [f1]
          obtain ⟨v, hv, e⟩ := x4
          obtain ⟨j, hj, rfl⟩ := h2
          rw [e]
          have hh : ∀ v, v < 8 → ∀ j, j < 3 → ∃ w, w < 8 ∧ (I32 v ^^^ ((1 : Int32) <<< (I32 j &&& 31))) = I32 w := by decide
          obtain ⟨w, hw, ew⟩ := hh v (by omega) j (by omega)
          exact ⟨w, by omega, ew⟩
        · rw [f3 _ (by omega) (by omega)]
          exact x4
      · obtain ⟨w1, w2⟩ := g4 k hk hk2
        exact ⟨fun i hi => by rw [f3 _ (by omega) (by omega)]; exact w1 i hi, by rw [f3 _ (by omega) (by omega)]; exact w2⟩
    refine ⟨_, S3, eM, fun n h4 t o z D hn m => ?_⟩
    obtain ⟨res, h5', e, g, p1, p2⟩ := a_turnsReset (I32 l) a2 o D hN hN2 (m.mono (by decide) (by decide)) hn
    obtain ⟨q1, q2⟩ := p2 l hl h2 rfl
    exact ⟨res, h5', e, g.mono (by decide) (by decide), Or.inr (Or.inr ⟨_, q1, bitOf_01 _ _, mf, q2 _ f1 f3, GG⟩)⟩
  · refine ⟨_, _, m_turnResetF hN hN2 hp, fun n h4 t o z D hn m => ?_⟩
    obtain ⟨res, h5', e, g, p1, p2⟩ := a_turnsReset a1 a2 o D hN hN2 (m.mono (by decide) (by decide)) hn
    exact ⟨res, h5', e, g.mono (by decide) (by decide), Or.inl ⟨p1 hp, MF1 S 1 (by decide)⟩⟩
end JMS
