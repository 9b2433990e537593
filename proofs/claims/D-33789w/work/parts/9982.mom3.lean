/-! ferries by moments: both sides go through the moments alike -/
theorem lp_two {σ1 σ2 ρ1 ρ2 : Type} {B1 : σ1 → Option (σ1 ⊕ ρ1)} {B2 : σ2 → Option (σ2 ⊕ ρ2)} {Q : ρ1 → ρ2 → Prop} (R : σ1 → σ2 → Prop) (μ : σ1 → Nat) (hs : ∀ x y, R x y → (∃ x' y', B1 x = some (.inl x') ∧ B2 y = some (.inl y') ∧ R x' y' ∧ μ x' < μ x) ∨ ∃ r1 r2, B1 x = some (.inr r1) ∧ B2 y = some (.inr r2) ∧ Q r1 r2) : ∀ (fuel : Nat) (x : σ1) (y : σ2), R x y → μ x < fuel → ∃ r1 r2, lp B1 fuel x = some r1 ∧ lp B2 fuel y = some r2 ∧ Q r1 r2
  | 0, _, _, _, h => absurd h (Nat.not_lt_zero _)
  | f + 1, x, y, hr, h => by
    rcases hs x y hr with ⟨x', y', h1, h2, h3, h4⟩ | ⟨r1, r2, h1, h2, h3⟩
    · obtain ⟨r1, r2, h5, h6, h7⟩ := lp_two R μ hs f x' y' h3 (by omega)
      exact ⟨r1, r2, by unfold lp; rw [h1]; exact h5, by unfold lp; rw [h2]; exact h6, h7⟩
    · exact ⟨r1, r2, by unfold lp; rw [h1], by unfold lp; rw [h2], h3⟩
/-- how many codes have a time -/
def cntK (tk : Nat → Option Nat) : Nat → Nat
  | 0 => 0
  | k + 1 => cntK tk k + (if tk k = none then 0 else 1)
theorem cntK_le (tk : Nat → Option Nat) : ∀ k, cntK tk k ≤ k
  | 0 => Nat.le_refl _
  | k + 1 => by
    have := cntK_le tk k
    show cntK tk k + (if tk k = none then 0 else 1) ≤ k + 1
    split <;> omega
theorem cntK_lt {tk : Nat → Option Nat} {c : Nat} (h : tk c = none) : ∀ k, c < k → cntK tk k < k
  | 0, hc => absurd hc (Nat.not_lt_zero _)
  | k + 1, hc => by
    show cntK tk k + (if tk k = none then 0 else 1) < k + 1
    by_cases e : c = k
    · subst e
      rw [if_pos h]
      have := cntK_le tk c
      omega
    · have := cntK_lt h k (by omega)
      split <;> omega
def updO (tk : Nat → Option Nat) (c : Nat) (x : Option Nat) : Nat → Option Nat := fun i => if i = c then x else tk i
theorem updO_eq (tk : Nat → Option Nat) (c : Nat) (x : Option Nat) : updO tk c x c = x := if_pos rfl
theorem updO_ne {tk : Nat → Option Nat} {c i : Nat} (x : Option Nat) (h : i ≠ c) : updO tk c x i = tk i := if_neg h
theorem cntK_upd {tk : Nat → Option Nat} {c t : Nat} (h : tk c = none) : ∀ k, cntK (updO tk c (some t)) k = cntK tk k + (if c < k then 1 else 0)
  | 0 => by
    rw [if_neg (Nat.not_lt_zero c)]
    rfl
  | k + 1 => by
    show cntK (updO tk c (some t)) k + (if updO tk c (some t) k = none then 0 else 1) = cntK tk k + (if tk k = none then 0 else 1) + (if c < k + 1 then 1 else 0)
    rw [cntK_upd h k]
    by_cases e : k = c
    · subst e
      rw [updO_eq, h, if_neg (show ¬ (some t : Option Nat) = none from fun q => by cases q), if_pos (show (none : Option Nat) = none from rfl), if_neg (Nat.lt_irrefl k), if_pos (Nat.lt_succ_self k)]
    · rw [updO_ne _ e]
      by_cases q : c < k
      · rw [if_pos q, if_pos (show c < k + 1 by omega)]
        omega
      · rw [if_neg q, if_neg (show ¬ c < k + 1 by omega)]
        omega
def tm : Option Nat → Int32
  | none => 100000
  | some t => I32 t
def RI (tk : Nat → Option Nat) (q : Nat → Nat) (n : Nat) : Prop := cntK tk 7986 = n ∧ (∀ i, i < n → q i < 7986 ∧ ∃ t, tk (q i) = some t) ∧ ∀ c t, tk c = some t → c < 7986 ∧ t ≤ 7986 ∧ ∃ i, i < n ∧ q i = c
theorem RI.le {tk : Nat → Option Nat} {q : Nat → Nat} {n : Nat} (I : RI tk q n) : n ≤ 7986 := by
  have := cntK_le tk 7986
  rw [I.1] at this
  exact this
def RC (h0 h : HH) (ta qa : Nat) (tk : Nat → Option Nat) (q : Nat → Nat) (n : Nat) : Prop := Gr (fun a => a < hSz h0) 2 15972 h0 h ∧ (∃ ft, hF h ta = some (.inl (0, 7986, .inl ft)) ∧ ∀ c, c < 7986 → ft c = oi (tk c)) ∧ (∃ fq, hF h qa = some (.inl (0, 7986, .inl fq)) ∧ ∀ i, i < n → fq i = I32 (q i)) ∧ hSz h0 ≤ ta ∧ hSz h0 ≤ qa ∧ ta ≠ qa
def RM (S0 S : MS) (tk : Nat → Option Nat) (q : Nat → Nat) (n : Nat) : Prop := S.2.1 19 = I32 n ∧ (∀ c, c < 7986 → S.1 17 c = tm (tk c)) ∧ (∀ i, i < n → S.1 18 i = I32 (q i)) ∧ (∀ K, K ≠ 17 → K ≠ 18 → S.1 K = S0.1 K) ∧ ∀ K, K ≠ 19 → S.2.1 K = S0.2.1 K
def Ext (tk : Nat → Option Nat) (q : Nat → Nat) (n : Nat) (tk' : Nat → Option Nat) (q' : Nat → Nat) (n' t : Nat) : Prop := n ≤ n' ∧ (∀ c w, tk c = some w → tk' c = some w) ∧ (∀ i, i < n → q' i = q i) ∧ ∀ i, n ≤ i → i < n' → tk' (q' i) = some t
theorem Ext.rf (tk : Nat → Option Nat) (q : Nat → Nat) (n t : Nat) : Ext tk q n tk q n t := ⟨Nat.le_refl _, fun _ _ h => h, fun _ _ => rfl, fun i h1 h2 => absurd h2 (by omega)⟩
theorem Ext.tr {tk tk1 tk2 : Nat → Option Nat} {q q1 q2 : Nat → Nat} {n n1 n2 t : Nat} (a : Ext tk q n tk1 q1 n1 t) (b : Ext tk1 q1 n1 tk2 q2 n2 t) : Ext tk q n tk2 q2 n2 t := ⟨Nat.le_trans a.1 b.1, fun c w h => b.2.1 c w (a.2.1 c w h), fun i hi => (b.2.2.1 i (Nat.lt_of_lt_of_le hi a.1)).trans (a.2.2.1 i hi), fun i h1 h2 => by
  by_cases q : i < n1
  · rw [b.2.2.1 i q]
    exact b.2.1 _ _ (a.2.2.2 i h1 q)
  · exact b.2.2.2 i (by omega) h2⟩
section MO3
variable {h0 h : HH} {S0 S : MS} {ta qa n t : Nat} {tk : Nat → Option Nat} {q : Nat → Nat}
theorem ix86 {c : Nat} (h : c < 7986) : ix (I32 c) c 7986 := ix_of c 7986 h (by decide)
theorem RC.hb (o0 : OKH h0) (C : RC h0 h ta qa tk q n) : hB h ≤ ta ∧ hB h ≤ qa := by
  have := C.1.b
  have := o0.2
  have := C.2.2.2
  omega
/-- a moment comes, or is there, or is none -/
theorem come_both (o0 : OKH h0) (C : RC h0 h ta qa tk q n) (M : RM S0 S tk q n) (I : RI tk q n) {m : Option Nat} (hm : ∀ c, m = some c → c < 7986) (ht : t ≤ 7986) : ∃ tk' q' n' S', P_X4_comes (oi m) (I32 t) S = some S' ∧ RM S0 S' tk' q' n' ∧ RI tk' q' n' ∧ Ext tk q n tk' q' n' t ∧ ((n' = n ∧ RC h0 h ta qa tk' q' n' ∧ (oi m = -1 ∨ (oi m ≠ -1 ∧ ∃ x, aldI h 0 (some ta) (oi m) = some x ∧ x ≠ -1))) ∨ (n' = n + 1 ∧ oi m ≠ -1 ∧ aldI h 0 (some ta) (oi m) = some (-1) ∧ ∃ h15 h16, astI h (some ta) (oi m) (I32 t) = some h15 ∧ astI h15 (some qa) (I32 n) (oi m) = some h16 ∧ RC h0 h16 ta qa tk' q' n')) := by
  obtain ⟨hb1, hb2⟩ := C.hb o0
  obtain ⟨g, ⟨ft, C1, C2⟩, ⟨fq, C3, C4⟩, l1, l2, ne⟩ := id C
  obtain ⟨M1, M2, M3, M4, M5⟩ := id M
  cases m with
  | none => exact ⟨tk, q, n, S, if_pos (by decide), M, I, Ext.rf _ _ _ _, Or.inl ⟨rfl, C, Or.inl rfl⟩⟩
  | some c =>
    have hc := hm c rfl
    have ne1 := oi_ne hc
    have r17 : rd S 17 (I32 c) = some (tm (tk c)) := by rw [rd_i (show ix (I32 c) c (mlen 17) from ix86 hc), M2 c hc]
    have a17 : aldI h 0 (some ta) (I32 c) = some (oi (tk c)) := by rw [v_aldI C1 (ix86 hc), C2 c hc]
    cases e : tk c with
    | some t0 =>
      have h0' := (I.2.2 c t0 e).2.1
      refine ⟨tk, q, n, S, ?_, M, I, Ext.rf _ _ _ _, Or.inl ⟨rfl, C, Or.inr ⟨ne1, _, a17, ?_⟩⟩⟩
      · show P_X4_comes (I32 c) (I32 t) S = _
        unfold P_X4_comes
        rw [if_neg (ix86 hc).1, r17, bind_some9, e, if_neg (fun w => by have w := congrArg Int32.toInt (show I32 t0 = (100000 : Int32) from w); rw [i32t (by omega), show (100000 : Int32).toInt = 100000 from rfl] at w; omega)]
      · rw [e]
        intro w
        have w := congrArg Int32.toInt (show I32 t0 = (-1 : Int32) from w)
        rw [i32t (by omega), show (-1 : Int32).toInt = -1 from rfl] at w
        omega
    | none =>
      have hn : n < 7986 := by
        have := cntK_lt e 7986 hc
        rw [I.1] at this
        exact this
      have i18 : ix (I32 n) n (mlen 18) := ix86 hn
      rw [e] at r17 a17
      refine ⟨updO tk c (some t), fun i => if i = n then c else q i, n + 1, setI (setA (setA S 17 (upd (S.1 17) c (I32 t))) 18 (upd (S.1 18) n (I32 c))) 19 (I32 (n + 1)), ?_, ⟨setI_get _ _ _, fun c' hc' => ?_, fun i hi => ?_, fun K k1 k2 => ?_, fun K k1 => ?_⟩, ⟨?_, fun i hi => ?_, fun c' t' h' => ?_⟩, ⟨Nat.le_succ _, fun c' w h' => ?_, fun i hi => if_neg (by omega), fun i h1 h2 => ?_⟩, Or.inr ⟨rfl, ne1, a17, hset h ta (.inl (0, 7986, .inl (upd ft c (I32 t)))), hset (hset h ta (.inl (0, 7986, .inl (upd ft c (I32 t))))) qa (.inl (0, 7986, .inl (upd fq n (I32 c)))), ?_, ?_, ?_, ?_, ?_, l1, l2, ne⟩⟩
      · show P_X4_comes (I32 c) (I32 t) S = _
        unfold P_X4_comes
        rw [if_neg (ix86 hc).1, r17, bind_some9, if_pos (show tm none = (100000 : Int32) from rfl), wr_i _ (show ix (I32 c) c (mlen 17) from ix86 hc), bind_some9]
        unfold pgI
        rw [bind_some9]
        show Option.bind (wr (setA S 17 (upd (S.1 17) c (I32 t))) 18 (S.2.1 19) (I32 c)) _ = _
        rw [M1, wr_i _ i18, bind_some9, bind_some9, setA_ne _ _ (by decide)]
        show Option.bind (piI _ 19 (S.2.1 19 + 1)) _ = _
        rw [M1, i32s n (by omega)]
        rfl
      · show ((setA (setA S 17 (upd (S.1 17) c (I32 t))) 18 (upd (S.1 18) n (I32 c))).1 17) c' = _
        rw [setA_ne _ _ (by decide), setA_get]
        unfold upd
        by_cases w : c' = c
        · rw [if_pos w, w, updO_eq]
          rfl
        · rw [if_neg w, updO_ne _ w]
          exact M2 c' hc'
      · show ((setA (setA S 17 (upd (S.1 17) c (I32 t))) 18 (upd (S.1 18) n (I32 c))).1 18) i = I32 (if i = n then c else q i)
        rw [setA_get]
        unfold upd
        by_cases w : i = n
        · rw [if_pos w, if_pos w]
        · rw [if_neg w, if_neg w]
          exact M3 i (by omega)
      · show (setA (setA S 17 (upd (S.1 17) c (I32 t))) 18 (upd (S.1 18) n (I32 c))).1 K = _
        rw [setA_ne _ _ k2, setA_ne _ _ k1]
        exact M4 K k1 k2
      · rw [setI_ne _ _ k1]
        exact M5 K k1
      · rw [cntK_upd e, if_pos hc, I.1]
      · show (if i = n then c else q i) < 7986 ∧ ∃ t', updO tk c (some t) (if i = n then c else q i) = some t'
        by_cases w : i = n
        · rw [if_pos w, updO_eq]
          exact ⟨hc, _, rfl⟩
        · rw [if_neg w]
          obtain ⟨u1, u2, u3⟩ := I.2.1 i (by omega)
          refine ⟨u1, ?_⟩
          by_cases w2 : q i = c
          · rw [w2, updO_eq]
            exact ⟨_, rfl⟩
          · rw [updO_ne _ w2]
            exact ⟨u2, u3⟩
      · by_cases w : c' = c
        · rw [w, updO_eq] at h'
          cases h'
          exact ⟨by omega, ht, n, Nat.lt_succ_self n, (if_pos rfl).trans w.symm⟩
        · rw [updO_ne _ w] at h'
          obtain ⟨u1, u2, i, u3, u4⟩ := I.2.2 c' t' h'
          exact ⟨u1, u2, i, by omega, (if_neg (by omega)).trans u4⟩
      · by_cases w2 : c' = c
        · rw [w2, e] at h'
          cases h'
        · rw [updO_ne _ w2]
          exact h'
      · show updO tk c (some t) (if i = n then c else q i) = some t
        rw [if_pos (show i = n by omega), updO_eq]
      · exact v_astI C1 (ix86 hc) hb1
      · exact v_astI (by rw [hF_set_ne _ _ (Ne.symm ne)]; exact C3) (ix86 hn) hb2
      · have g1 := Gr.set (P := fun a => a < hSz h0) (e := .inl (0, 7986, .inl (upd ft c (I32 t)))) g.ok C1 (fun w => by have w : ta < hSz h0 := w; omega)
        exact ((g.tr g1).tr (Gr.set g1.ok (by rw [hF_set_ne _ _ (Ne.symm ne)]; exact C3) (fun w => by have w : qa < hSz h0 := w; omega))).mono (by decide) (by decide)
      · refine ⟨_, by rw [hF_set_ne _ _ ne, hF_set_eq], fun c' hc' => ?_⟩
        unfold upd
        by_cases w : c' = c
        · rw [if_pos w, w, updO_eq]
          rfl
        · rw [if_neg w, updO_ne _ w]
          exact C2 c' hc'
      · refine ⟨_, hF_set_eq _ _ _, fun i hi => ?_⟩
        show upd fq n (I32 c) i = I32 (if i = n then c else q i)
        unfold upd
        by_cases w : i = n
        · rw [if_pos w, if_pos w]
        · rw [if_neg w, if_neg w]
          exact C4 i (by omega)
end MO3
