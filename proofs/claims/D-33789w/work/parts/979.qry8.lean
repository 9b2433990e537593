/-! the model's look at the moments -/
def MSJ (S : MS) (n s : Nat) : MS := (S.1, va_up S.2.1 11 (I32 n), Int64.ofNat s)
def crI (a1 : Int32) (a b c : Nat) : Nat := if a1 = 0 then a else if a1 = (1 : Int32) then b else c
noncomputable def w2 (D : OD) (E : Option OD) (a1 : Int32) (a b c : Nat) : Nat := if bq (sat D (mo a b c) ∧ ∀ e, E = some e → ¬ sat e (mo a b c)) then crI a1 a b c else 0
def OM (S : MS) (a2 : Int32) (E : Option OD) : Prop := (a2 < 0 ∧ E = none) ∨ ∃ k, k ≤ 3 ∧ a2 = I32 k ∧ E = some (Zs (S.1 0) (16 + 16 * k)) ∧ rep 100000 (sub (S.1 0) (16 + 16 * k)) (Zs (S.1 0) (16 + 16 * k))
theorem msj11 (S : MS) (n s : Nat) : pgI (MSJ S n s) 11 = some (I32 n) := by
  show some ((va_up S.2.1 11 (I32 n)) 11) = _
  simp [va_up]
theorem to64 : ∀ a, a < 31 → (I32 a).toInt64 = Int64.ofNat a := by decide
theorem t85 (a1 a2 : Int32) {a b c : Nat} (ha : a < 31) (hb : b < 31) (hc : c < 31) (y : Int32) (S : MS) (n s : Nat) : P_X4_looksAtMoments_T85 a1 a2 (I32 a) (I32 b) (I32 c) y (MSJ S n s) = some (.inl (I32 (c + 1), MSJ S (n + (if y = 0 then 0 else 1)) (s + (if y = 0 then 0 else crI a1 a b c)))) := by
  unfold P_X4_looksAtMoments_T85
  rw [msj11, bind_some9, i32s c (by omega), to64 a ha, to64 b hb, to64 c hc]
  have e1 : I32 n + (if y = 0 then (0 : Int32) else (1 : Int32)) = I32 (n + (if y = 0 then 0 else 1)) := by
    by_cases h : y = 0
    · rw [if_pos h, if_pos h]
      exact big_add n 0
    · rw [if_neg h, if_neg h]
      exact big_add n 1
  have e2 : Int64.ofNat s + (if y = 0 then (0 : Int64) else (if a1 = 0 then Int64.ofNat a else (if a1 = (1 : Int32) then Int64.ofNat b else Int64.ofNat c))) = Int64.ofNat (s + (if y = 0 then 0 else crI a1 a b c)) := by
    unfold crI
    by_cases h : y = 0
    · rw [if_pos h, if_pos h]
      exact big_add64 s 0
    · rw [if_neg h, if_neg h]
      by_cases h0 : a1 = 0
      · rw [if_pos h0, if_pos h0]
        exact big_add64 s a
      · rw [if_neg h0, if_neg h0]
        by_cases h1 : a1 = (1 : Int32)
        · rw [if_pos h1, if_pos h1]
          exact big_add64 s b
        · rw [if_neg h1, if_neg h1]
          exact big_add64 s c
  rw [e1]
  show some (Sum.inl (I32 (c + 1), (S.1, va_up (va_up S.2.1 11 (I32 n)) 11 (I32 (n + (if y = 0 then 0 else 1))), Int64.ofNat s + _))) = _
  rw [e2]
  unfold MSJ
  congr 5
  funext i
  simp only [va_up]
  split <;> rfl
section Q8
variable {S : MS} {a1 a2 : Int32} {E : Option OD}
theorem gt30 : ∀ c, c < 31 → ¬ (30 : Int32) < I32 c := by decide
theorem moT {a b c : Nat} : (yv (fun i => if i = 0 then I32 a else if i = 1 then I32 b else I32 c)) = mo a b c := rfl
theorem mB31 (G : GoodS (S.1 0)) (hE : OM S a2 E) {a b : Nat} (ha : a < 31) (hb : b < 31) (n s : Nat) : lp (fun z => P_X4_looksAtMoments_B31 a1 a2 (I32 a) (I32 b) z.1 z.2) 100000 ((0 : Int32), MSJ S n s) = some (MSJ S (n + sumN (fun c => cw (Zs (S.1 0) 0) E a b c) 31) (s + sumN (fun c => w2 (Zs (S.1 0) 0) E a1 a b c) 31)) := by
  refine lp_for0 (fun c => (I32 c, MSJ S (n + sumN (fun c => cw (Zs (S.1 0) 0) E a b c) c) (s + sumN (fun c => w2 (Zs (S.1 0) 0) E a1 a b c) c))) 31 (fun c hc => ?_) ?_ 100000 (by decide)
  · show P_X4_looksAtMoments_B31 a1 a2 (I32 a) (I32 b) (I32 c) (MSJ S _ _) = some (.inl (I32 (c + 1), MSJ S (n + (sumN (fun c => cw (Zs (S.1 0) 0) E a b c) c + cw (Zs (S.1 0) 0) E a b c)) (s + (sumN (fun c => w2 (Zs (S.1 0) 0) E a1 a b c) c + w2 (Zs (S.1 0) 0) E a1 a b c))))
    unfold P_X4_looksAtMoments_B31
    rw [if_neg (gt30 c hc), ← Nat.add_assoc, ← Nat.add_assoc]
    have hf : ∀ x, x = I32 a ∨ x = I32 b ∨ x = I32 c → -9 ≤ x.toInt ∧ x.toInt ≤ 5000 := fun x hx => by
      rcases hx with rfl | rfl | rfl <;> rw [big_t (by omega)] <;> omega
    obtain ⟨v, ev, fv⟩ := m_allows (S := MSJ S (n + sumN (fun c => cw (Zs (S.1 0) 0) E a b c) c) (s + sumN (fun c => w2 (Zs (S.1 0) 0) E a1 a b c) c)) (o := 0) (a2 := (0 : Int32)) (D := Zs (S.1 0) 0) (fun j hj => by rw [Nat.zero_add]; exact ix0 (show j < 194 by omega) (by decide)) G.1 hf
    have fv : fl v (sat (Zs (S.1 0) 0) (mo a b c)) := fv
    rw [ev, bind_some9]
    by_cases hs : sat (Zs (S.1 0) 0) (mo a b c)
    · rw [if_neg (fun q => (fl_0 fv).mp q hs)]
      rcases hE with ⟨h2, rfl⟩ | ⟨k, hk, rfl, rfl, rk⟩
      · rw [if_pos h2, t85 a1 a2 ha hb hc]
        unfold cw w2
        rw [if_pos (bq_t.mpr ⟨hs, fun e he => by cases he⟩), if_pos (bq_t.mpr ⟨hs, fun e he => by cases he⟩), if_neg (by decide), if_neg (by decide)]
      · have nk : ¬ I32 k < 0 := fun q => by
          have := Int32.lt_iff_toInt_lt.mp q
          rw [big_t (by omega)] at this
          have e0 : (0 : Int32).toInt = 0 := by decide
          omega
        obtain ⟨u, eu, fu⟩ := m_allows (S := MSJ S (n + sumN (fun c => cw (Zs (S.1 0) 0) (some (Zs (S.1 0) (16 + 16 * k))) a b c) c) (s + sumN (fun c => w2 (Zs (S.1 0) 0) (some (Zs (S.1 0) (16 + 16 * k))) a1 a b c) c)) (o := 16 + 16 * k) (a2 := ((16 : Int32) + ((16 : Int32) * I32 k))) (D := Zs (S.1 0) (16 + 16 * k)) (fun j hj => shelf_ix (by omega) hj) rk hf
        have fu : fl u (sat (Zs (S.1 0) (16 + 16 * k)) (mo a b c)) := fu
        rw [if_neg nk, eu, bind_some9]
        by_cases h2 : sat (Zs (S.1 0) (16 + 16 * k)) (mo a b c)
        · rw [if_neg (fun q => (fl_0 fu).mp q h2), t85 a1 _ ha hb hc]
          unfold cw w2
          rw [bq_f.mpr (fun q => q.2 _ rfl h2), if_pos rfl, if_pos rfl]
          rfl
        · rw [if_pos ((fl_0 fu).mpr h2), t85 a1 _ ha hb hc]
          unfold cw w2
          rw [if_pos (bq_t.mpr ⟨hs, fun e he => by cases he; exact h2⟩), if_pos (bq_t.mpr ⟨hs, fun e he => by cases he; exact h2⟩), if_neg (by decide), if_neg (by decide)]
    · rw [if_pos ((fl_0 fv).mpr hs), t85 a1 a2 ha hb hc]
      unfold cw w2
      rw [bq_f.mpr (fun q => hs q.1), if_pos rfl, if_pos rfl]
      rfl
  · show P_X4_looksAtMoments_B31 a1 a2 (I32 a) (I32 b) (I32 31) _ = _
    unfold P_X4_looksAtMoments_B31
    exact if_pos (by decide)
theorem mB21 (G : GoodS (S.1 0)) (hE : OM S a2 E) {a : Nat} (ha : a < 31) (n s : Nat) : lp (fun z => P_X4_looksAtMoments_B21 a1 a2 (I32 a) z.1 z.2) 100000 ((0 : Int32), MSJ S n s) = some (MSJ S (n + sumN (fun b => sumN (fun c => cw (Zs (S.1 0) 0) E a b c) 31) 31) (s + sumN (fun b => sumN (fun c => w2 (Zs (S.1 0) 0) E a1 a b c) 31) 31)) := by
  refine lp_for0 (fun b => (I32 b, MSJ S (n + sumN (fun b => sumN (fun c => cw (Zs (S.1 0) 0) E a b c) 31) b) (s + sumN (fun b => sumN (fun c => w2 (Zs (S.1 0) 0) E a1 a b c) 31) b))) 31 (fun b hb => ?_) ?_ 100000 (by decide)
  · show P_X4_looksAtMoments_B21 a1 a2 (I32 a) (I32 b) (MSJ S _ _) = some (.inl (I32 (b + 1), MSJ S (n + (sumN (fun b => sumN (fun c => cw (Zs (S.1 0) 0) E a b c) 31) b + sumN (fun c => cw (Zs (S.1 0) 0) E a b c) 31)) (s + (sumN (fun b => sumN (fun c => w2 (Zs (S.1 0) 0) E a1 a b c) 31) b + sumN (fun c => w2 (Zs (S.1 0) 0) E a1 a b c) 31))))
    unfold P_X4_looksAtMoments_B21
    rw [if_neg (gt30 b hb), ← Nat.add_assoc, ← Nat.add_assoc, mB31 G hE ha hb, bind_some9, i32s b (by omega)]
  · show P_X4_looksAtMoments_B21 a1 a2 (I32 a) (I32 31) _ = _
    unfold P_X4_looksAtMoments_B21
    exact if_pos (by decide)
theorem m_moments (G : GoodS (S.1 0)) (hE : OM S a2 E) : P_X4_looksAtMoments a1 a2 S = some (MSJ S (T3 (cw (Zs (S.1 0) 0) E)) (T3 (w2 (Zs (S.1 0) 0) E a1))) := by
  have L : lp (fun z => P_X4_looksAtMoments_B12 a1 a2 z.1 z.2) 100000 ((0 : Int32), MSJ S 0 0) = some (MSJ S (T3 (cw (Zs (S.1 0) 0) E)) (T3 (w2 (Zs (S.1 0) 0) E a1))) := by
    refine lp_for0 (fun a => (I32 a, MSJ S (sumN (fun a => sumN (fun b => sumN (fun c => cw (Zs (S.1 0) 0) E a b c) 31) 31) a) (sumN (fun a => sumN (fun b => sumN (fun c => w2 (Zs (S.1 0) 0) E a1 a b c) 31) 31) a))) 31 (fun a ha => ?_) ?_ 100000 (by decide)
    · show P_X4_looksAtMoments_B12 a1 a2 (I32 a) (MSJ S _ _) = some (.inl (I32 (a + 1), MSJ S (sumN (fun a => sumN (fun b => sumN (fun c => cw (Zs (S.1 0) 0) E a b c) 31) 31) a + sumN (fun b => sumN (fun c => cw (Zs (S.1 0) 0) E a b c) 31) 31) (sumN (fun a => sumN (fun b => sumN (fun c => w2 (Zs (S.1 0) 0) E a1 a b c) 31) 31) a + sumN (fun b => sumN (fun c => w2 (Zs (S.1 0) 0) E a1 a b c) 31) 31)))
      unfold P_X4_looksAtMoments_B12
      rw [if_neg (gt30 a ha), mB21 G hE ha, bind_some9, i32s a (by omega)]
    · show P_X4_looksAtMoments_B12 a1 a2 (I32 31) _ = _
      unfold P_X4_looksAtMoments_B12
      exact if_pos (by decide)
  unfold P_X4_looksAtMoments
  show Option.bind (some (S.1, va_up S.2.1 11 (0 : Int32), S.2.2)) _ = _
  rw [bind_some9]
  show Option.bind (some (MSJ S 0 0)) _ = _
  rw [bind_some9, L, bind_some9]
theorem SM.msj (S : MS) (n s : Nat) : SM S (MSJ S n s) := ⟨fun _ _ => rfl, rfl, rfl, rfl, by simp [MSJ, va_up], by simp [MSJ, va_up], by simp [MSJ, va_up]⟩
theorem msj8 (S : MS) (n s : Nat) : (MSJ S n s).2.1 8 = S.2.1 8 := by simp [MSJ, va_up]
theorem m_count (G : GoodS (S.1 0)) : P_X4_count S = some (I32 (T3 (cw (Zs (S.1 0) 0) none)), MSJ S (T3 (cw (Zs (S.1 0) 0) none)) (T3 (w2 (Zs (S.1 0) 0) none 0))) := by
  unfold P_X4_count
  rw [m_moments (E := none) G (Or.inl ⟨by decide, rfl⟩), bind_some9, msj11, bind_some9]
theorem m_toldCount (G : GoodS (S.1 0)) : P_X4_toldCount S = some (I32 (T3 (cw (Zs (S.1 0) 0) none)), MSJ (setI S 8 0) (T3 (cw (Zs (S.1 0) 0) none)) (T3 (w2 (Zs (S.1 0) 0) none 0))) := by
  unfold P_X4_toldCount
  show Option.bind (some (setI S 8 0)) _ = _
  rw [bind_some9, m_count (S := setI S 8 0) G, pb2_s]
  rfl
end Q8
theorem sumN_le {f : Nat → Nat} {k : Nat} (h : ∀ i, f i ≤ k) : ∀ n, sumN f n ≤ k * n
  | 0 => Nat.zero_le _
  | n + 1 => by
    show sumN f n + f n ≤ k * (n + 1)
    have := sumN_le h n
    have := h n
    rw [Nat.mul_succ]
    omega
theorem cw_le (D : OD) (E : Option OD) (a b c : Nat) : cw D E a b c ≤ 1 := by
  unfold cw
  split <;> omega
theorem T3_le (D : OD) (E : Option OD) : T3 (cw D E) ≤ 29791 := by
  unfold T3
  have h1 : ∀ a b, sumN (fun c => cw D E a b c) 31 ≤ 31 := fun a b => sumN_le (k := 1) (fun c => cw_le D E a b c) 31
  have h2 : ∀ a, sumN (fun b => sumN (fun c => cw D E a b c) 31) 31 ≤ 31 * 31 := fun a => sumN_le (h1 a) 31
  exact sumN_le h2 31
theorem sumN_pos {f : Nat → Nat} {k : Nat} (h : 0 < f k) : ∀ n, k < n → 0 < sumN f n
  | 0, q => absurd q (Nat.not_lt_zero _)
  | n + 1, q => by
    show 0 < sumN f n + f n
    by_cases e : k = n
    · subst e
      omega
    · have := sumN_pos h n (by omega)
      omega
theorem sumN_z {f : Nat → Nat} : ∀ n, (∀ k, k < n → f k = 0) → sumN f n = 0 := fun n h => by
  rw [sumN_congr (g := fun _ => 0) h, sumN_0]
/-- no moment in the box: no moment at all -/
theorem T3_0 {D : OD} (G : GZ D) : T3 (cw D none) = 0 ↔ ¬ nn (otl D 4) := by
  refine ⟨fun h hn => ?_, fun hn => ?_⟩
  · have T := G.Tt hn
    have hs := nn_sat (zr_of G.1 G.2.1) hn
    have ex : ∀ c, c < 3 → ∃ n : Nat, n < 31 ∧ mx (otl D 4) c = (n : Int) := fun c hc => by
      obtain ⟨t, ht, h0⟩ := T.2.2.1 c hc
      have l := lo30 T.1 T.2.1 T.2.2.1 T.2.2.2.1 (12 + c) (by omega) t ht
      refine ⟨(-t).toNat, by omega, ?_⟩
      unfold mx
      rw [ht]
      show -t = _
      omega
    obtain ⟨n0, b0, e0⟩ := ex 0 (by decide)
    obtain ⟨n1, b1, e1⟩ := ex 1 (by decide)
    obtain ⟨n2, b2, e2⟩ := ex 2 (by decide)
    have e3 : mx (otl D 4) 3 = 0 := by
      have d3 := T.2.1 3 (by decide)
      unfold mx
      rw [show 12 + 3 = 5 * 3 from rfl, d3]
      rfl
    have sm : sat D (mo n0 n1 n2) := (sat_cg (fun i hi => by
      unfold mo yv
      rcases or4 hi with rfl | rfl | rfl | rfl
      · rw [if_neg (by decide), e0]
        show _ = (if (0 : Nat) = 0 then I32 n0 else _).toInt
        rw [if_pos rfl, big_t (by omega)]
      · rw [if_neg (by decide), e1]
        show _ = (if (1 : Nat) = 0 then I32 n0 else if (1 : Nat) = 1 then I32 n1 else I32 n2).toInt
        rw [if_neg (by decide), if_pos rfl, big_t (by omega)]
      · rw [if_neg (by decide), e2]
        show _ = (if (2 : Nat) = 0 then I32 n0 else if (2 : Nat) = 1 then I32 n1 else I32 n2).toInt
        rw [if_neg (by decide), if_neg (by decide), big_t (by omega)]
      · rw [if_pos rfl, e3])).mp hs
    have c1 : 0 < cw D none n0 n1 n2 := by
      unfold cw
      rw [if_pos (bq_t.mpr ⟨sm, fun e he => by cases he⟩)]
      decide
    have p1 : 0 < sumN (fun c => cw D none n0 n1 c) 31 := sumN_pos (k := n2) c1 31 b2
    have p2 : 0 < sumN (fun b => sumN (fun c => cw D none n0 b c) 31) 31 := sumN_pos (f := fun b => sumN (fun c => cw D none n0 b c) 31) (k := n1) p1 31 b1
    have p3 : 0 < T3 (cw D none) := sumN_pos (f := fun a => sumN (fun b => sumN (fun c => cw D none a b c) 31) 31) (k := n0) p2 31 b0
    omega
  · have z : ∀ a b c, cw D none a b c = 0 := fun a b c => by
      unfold cw
      rw [bq_f.mpr (fun q => hn (sat_nn4 q.1))]
      rfl
    unfold T3
    exact sumN_z _ (fun a _ => sumN_z _ (fun b _ => sumN_z _ (fun c _ => z a b c)))
theorem cw_tight (D : OD) (E : Option OD) : cw (otl D 4) E = cw D E := by
  funext a b c
  unfold cw
  have : bq (sat (otl D 4) (mo a b c) ∧ ∀ e, E = some e → ¬ sat e (mo a b c)) = bq (sat D (mo a b c) ∧ ∀ e, E = some e → ¬ sat e (mo a b c)) := by
    rw [sat_iff]
  rw [this]
