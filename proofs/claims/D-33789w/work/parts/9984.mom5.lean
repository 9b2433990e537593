/-! ferries by moments: the start, and what all moments give -/
theorem cntK_no : ∀ k, cntK (fun _ => none) k = 0
  | 0 => rfl
  | k + 1 => by
    show cntK (fun _ => none) k + (if (none : Option Nat) = none then 0 else 1) = 0
    rw [cntK_no k, if_pos rfl]
section MO5
variable {h : HH} {S0 : MS} {dk N stD alD sh z arD capD : Nat} {s f : Nat → Int32} {w0 : Int32} {qD : Nat → Option Nat} {la le mo : Nat → Nat}
theorem alw_0 (s : Nat → Int32) : alw s 0 := fun k hk => by
  have : ck 0 k = 0 := by
    have : k = 0 ∨ k = 1 ∨ k = 2 := by omega
    rcases this with rfl | rfl | rfl <;> rfl
  rw [this]
  exact Or.inr (Nat.zero_le _)
theorem n7986 {j : Nat} (h : j < 7986) : ¬ (7986 : Int32) ≤ I32 j := fun c => by
  have c : I32 7986 ≤ I32 j := c
  rw [i32le (by omega) (by omega)] at c
  omega
/-- all moments, both sides -/
theorem r_ride (o : OKH h) (D : DW h dk s N stD alD sh z w0 f arD capD qD la le mo) (e0 : S0.1 0 = s) (h102 : s 102 = I32 N) (m : Rm 2 15972 h) : ∃ h' S' tk q n, F_X2_ticksTo dk h = some (some (hSz h), h') ∧ P_X4_rides S0 = some S' ∧ RC h h' (hSz h) (hSz h + 1) tk q n ∧ RM S0 S' tk q n ∧ RI tk q n := by
  obtain ⟨Y, eL, d, e2, hd⟩ := lp_inv0 (B := fun y => F_X2_ticksTo_B8 dk (some (hSz h)) y.1 y.2) (Q := fun Y => ∃ d, Y = hpush h (.inl (0, 7986, .inl d)) 7986 ∧ ∀ i, i < 7986 → d i = -1) (fuel := 100000) (x := ((0 : Int32), hpush h (.inl (0, 7986, zeroA 0)) 7986)) (fun j y => y.1 = I32 j ∧ ∃ d, y.2 = hpush h (.inl (0, 7986, .inl d)) 7986 ∧ ∀ i, i < j → d i = -1) 7986 (fun j hj y hy => by
    obtain ⟨w, Y⟩ := y
    obtain ⟨e1, d, e2, h2⟩ := hy
    have e1 : w = I32 j := e1
    have e3 : Y = hpush h (.inl (0, 7986, .inl d)) 7986 := e2
    clear e2
    subst e1
    subst e3
    refine ⟨_, by
      show F_X2_ticksTo_B8 dk (some (hSz h)) (I32 j) (hpush h (.inl (0, 7986, .inl d)) 7986) = _
      unfold F_X2_ticksTo_B8
      rw [v_alen (hF_push_eq h (.inl (0, 7986, .inl d)) 7986) (by decide), bind_some9, if_neg (show ¬ Int32.ofNat 7986 ≤ I32 j from n7986 hj), arr_put o (ix86 hj), bind_some9, i32s j (by omega)], rfl, _, rfl, fun k hk => ?_⟩
    unfold upd
    by_cases e : k = j
    · rw [if_pos e]
    · rw [if_neg e]
      exact h2 k (by omega)) (fun y hy => by
    obtain ⟨w, Y⟩ := y
    obtain ⟨e1, d, e2, h2⟩ := hy
    have e1 : w = I32 7986 := e1
    have e3 : Y = hpush h (.inl (0, 7986, .inl d)) 7986 := e2
    clear e2
    subst e1
    subst e3
    refine ⟨_, ?_, d, rfl, h2⟩
    show F_X2_ticksTo_B8 dk (some (hSz h)) (I32 7986) (hpush h (.inl (0, 7986, .inl d)) 7986) = _
    unfold F_X2_ticksTo_B8
    rw [v_alen (hF_push_eq h (.inl (0, 7986, .inl d)) 7986) (by decide), bind_some9]
    exact if_pos (Int32.le_refl _)) ⟨rfl, fun _ => 0, rfl, fun k hk => absurd hk (Nat.not_lt_zero k)⟩ (by decide)
  subst e2
  have gp : Gr (fun a => a < hSz h) 1 7986 h (hpush h (.inl (0, 7986, .inl d)) 7986) := Gr.push o _ 7986 (Nat.lt_irrefl _)
  have m1 := m.gr gp (by decide) (by decide)
  have gq : Gr (fun a => a < hSz (hpush h (.inl (0, 7986, .inl d)) 7986)) 1 7986 (hpush h (.inl (0, 7986, .inl d)) 7986) (hpush (hpush h (.inl (0, 7986, .inl d)) 7986) (.inl (0, 7986, zeroA 0)) 7986) := Gr.push gp.ok _ 7986 (Nat.lt_irrefl _)
  have g7 : Gr (fun a => a < hSz h) 2 15972 h (hpush (hpush h (.inl (0, 7986, .inl d)) 7986) (.inl (0, 7986, zeroA 0)) 7986) := gp.tr (gq.sub (fun a (q : a < hSz h) => by show a < hSz h + 1; omega))
  obtain ⟨h7, eh7⟩ : ∃ h7, h7 = hpush (hpush h (.inl (0, 7986, .inl d)) 7986) (.inl (0, 7986, zeroA 0)) 7986 := ⟨_, rfl⟩
  rw [← eh7] at g7
  have c1 : hF h7 (hSz h) = some (.inl (0, 7986, .inl d)) := by
    rw [eh7, hF_push_ne _ _ _ (show hSz h ≠ hSz h + 1 by omega)]
    exact hF_push_eq _ _ _
  have c2 : hF h7 (hSz h + 1) = some (.inl (0, 7986, .inl fun _ => 0)) := by
    rw [eh7]
    exact hF_push_eq _ _ _
  have hb7 : hB h7 ≤ hSz h := by
    rw [g7.b]
    exact o.2
  have D7 := D.gr o g7
  have ea : F_X2_allowed dk (0 : Int32) h7 = some (0 : Int32) := by
    rw [show F_X2_allowed dk (0 : Int32) h7 = some (if bq (alw s 0) then I32 0 else (-1 : Int32)) from f_allowed D7 (c := 0) (by decide), if_pos (bq_t.mpr (alw_0 s))]
    rfl
  have C : RC h (hset h7 (hSz h) (.inl (0, 7986, .inl (upd d 0 0)))) (hSz h) (hSz h + 1) (updO (fun _ => none) 0 (some 0)) (fun _ => 0) 1 := by
    refine ⟨(g7.tr (Gr.set g7.ok c1 (fun w => Nat.lt_irrefl _ w))).mono (by decide) (by decide), ⟨_, hF_set_eq _ _ _, fun c hc => ?_⟩, ⟨_, by rw [hF_set_ne _ _ (show hSz h + 1 ≠ hSz h by omega)]; exact c2, fun i hi => rfl⟩, Nat.le_refl _, Nat.le_succ _, by omega⟩
    unfold upd
    by_cases w : c = 0
    · rw [if_pos w, w, updO_eq]
      rfl
    · rw [if_neg w, updO_ne _ w]
      exact hd c hc
  have I : RI (updO (fun _ => none) 0 (some 0)) (fun _ => 0) 1 := by
    refine ⟨by rw [cntK_upd rfl, cntK_no, if_pos (by decide)], fun i hi => ⟨show (0 : Nat) < 7986 by decide, 0, updO_eq _ _ _⟩, fun c t hct => ?_⟩
    by_cases w : c = 0
    · rw [w, updO_eq] at hct
      cases hct
      exact ⟨by omega, by decide, 0, by decide, w.symm⟩
    · rw [updO_ne _ w] at hct
      cases hct
  obtain ⟨Z, fL, dm, f2, hm⟩ := lp_inv0 (B := fun y => P_X4_rides_B2 y.1 y.2) (Q := fun Z => ∃ d, Z = setA S0 17 d ∧ ∀ i, i < 7986 → d i = 100000) (fuel := 100000) (x := ((0 : Int32), S0)) (fun j y => y.1 = I32 j ∧ ∃ d, y.2 = setA S0 17 d ∧ ∀ i, i < j → d i = 100000) 7986 (fun j hj y hy => by
    obtain ⟨w, Y⟩ := y
    obtain ⟨e1, d, e2, h2⟩ := hy
    have e1 : w = I32 j := e1
    have e3 : Y = setA S0 17 d := e2
    clear e2
    subst e1
    subst e3
    refine ⟨_, by
      show P_X4_rides_B2 (I32 j) (setA S0 17 d) = _
      unfold P_X4_rides_B2
      rw [if_neg (n7986 hj), wr_i _ (show ix (I32 j) j (mlen 17) from ix86 hj), bind_some9, setA_get, setA_set, i32s j (by omega)], rfl, _, rfl, fun k hk => ?_⟩
    unfold upd
    by_cases e : k = j
    · rw [if_pos e]
    · rw [if_neg e]
      exact h2 k (by omega)) (fun y hy => by
    obtain ⟨w, Y⟩ := y
    obtain ⟨e1, d, e2, h2⟩ := hy
    have e1 : w = I32 7986 := e1
    subst e1
    refine ⟨Y, ?_, d, e2, h2⟩
    show P_X4_rides_B2 (I32 7986) Y = _
    unfold P_X4_rides_B2
    exact if_pos (by decide)) ⟨rfl, S0.1 17, (setA_self S0 17).symm, fun k hk => absurd hk (Nat.not_lt_zero k)⟩ (by decide)
  obtain ⟨S3, eS3⟩ : ∃ S3, S3 = setI (setA (setA (setI (setA S0 17 dm) 19 0) 17 (upd dm 0 0)) 18 (upd (S0.1 18) 0 0)) 19 1 := ⟨_, rfl⟩
  have eC : P_X4_comes (0 : Int32) (0 : Int32) (setI (setA S0 17 dm) 19 0) = some S3 := by
    have r17 : rd (setI (setA S0 17 dm) 19 0) 17 (0 : Int32) = some (100000 : Int32) := by
      rw [rd_i (show ix (0 : Int32) 0 (mlen 17) from ix86 (c := 0) (by decide))]
      show some ((setA S0 17 dm).1 17 0) = _
      rw [setA_get, hm 0 (by decide)]
    unfold P_X4_comes
    rw [if_neg (by decide), r17, bind_some9, if_pos rfl, wr_i _ (show ix (0 : Int32) 0 (mlen 17) from ix86 (c := 0) (by decide)), bind_some9]
    unfold pgI
    rw [bind_some9]
    show Option.bind (wr (setA (setI (setA S0 17 dm) 19 0) 17 (upd ((setA S0 17 dm).1 17) 0 0)) 18 (va_up S0.2.1 19 0 19) (0 : Int32)) _ = _
    rw [setA_get, show va_up S0.2.1 19 (0 : Int32) 19 = (0 : Int32) from if_pos rfl, wr_i _ (show ix (0 : Int32) 0 (mlen 18) from ix86 (c := 0) (by decide)), bind_some9, bind_some9, setA_ne _ _ (by decide)]
    show Option.bind (piI (setA (setA (setI (setA S0 17 dm) 19 0) 17 (upd dm 0 0)) 18 (upd ((setA S0 17 dm).1 18) 0 0)) 19 (va_up S0.2.1 19 (0 : Int32) 19 + 1)) _ = _
    rw [setA_ne _ _ (by decide), show va_up S0.2.1 19 (0 : Int32) 19 = (0 : Int32) from if_pos rfl, eS3]
    rfl
  have M : RM S0 S3 (updO (fun _ => none) 0 (some 0)) (fun _ => 0) 1 := by
    rw [eS3]
    refine ⟨setI_get _ _ _, fun c hc => ?_, fun i hi => ?_, fun K k1 k2 => ?_, fun K k1 => ?_⟩
    · show ((setA (setA (setI (setA S0 17 dm) 19 0) 17 (upd dm 0 0)) 18 (upd (S0.1 18) 0 0)).1 17) c = _
      rw [setA_ne _ _ (by decide), setA_get]
      unfold upd
      by_cases w : c = 0
      · rw [if_pos w, w, updO_eq]
        rfl
      · rw [if_neg w, updO_ne _ w]
        exact hm c hc
    · have : i = 0 := by omega
      subst this
      show ((setA (setA (setI (setA S0 17 dm) 19 0) 17 (upd dm 0 0)) 18 (upd (S0.1 18) 0 0)).1 18) 0 = _
      rw [setA_get]
      rfl
    · show (setA (setA (setI (setA S0 17 dm) 19 0) 17 (upd dm 0 0)) 18 (upd (S0.1 18) 0 0)).1 K = _
      rw [setA_ne _ _ k2, setA_ne _ _ k1]
      show (setA S0 17 dm).1 K = _
      exact setA_ne _ _ k1
    · rw [setI_ne _ _ k1]
      show (setI (setA S0 17 dm) 19 0).2.1 K = _
      exact setI_ne _ _ k1
  obtain ⟨h', S', e5, e6, tk, q, n, C', M', I'⟩ := r_all o D e0 h102 C M I (fun i _ => updO_eq _ _ _)
  refine ⟨h', S', tk, q, n, ?_, ?_, C', M', I'⟩
  · unfold F_X2_ticksTo
    rw [v_newA (t := 0) (n := 7986) (by decide) (by decide) (by decide) (m.mono (by decide) (by decide)), bind_some9, eL, bind_some9, v_newA (t := 0) (n := 7986) (by decide) (by decide) (by decide) (m1.mono (by decide) (by decide)), bind_some9, ← eh7, v_isO D7.1, bind_some9, ea, bind_some9, if_neg (show ¬ (0 : Int32) = -1 by decide), show (1 : Int32) - 1 = 0 from rfl, v_astI c1 (show ix (0 : Int32) 0 7986 from ix86 (c := 0) (by decide)) hb7, bind_some9]
    show Option.bind (lp (fun y => F_X2_ticksTo_B57 dk (some (hSz h)) (some (hSz h + 1)) y.1 y.2.1 y.2.2.1 y.2.2.2) 100000 (I32 1, (0 : Int32), (0 : Int32), hset h7 (hSz h) (.inl (0, 7986, .inl (upd d 0 0))))) _ = _
    rw [e5, bind_some9]
  · unfold P_X4_rides
    rw [fL, bind_some9, f2, show piI (setA S0 17 dm) 19 (0 : Int32) = some (setI (setA S0 17 dm) 19 0) from rfl, bind_some9, eC, bind_some9, e6, bind_some9]
end MO5
/-! sets as bits: the order of what is put in does not matter -/
def orc (f : Nat → Int32) : Nat → Int32
  | 0 => 0
  | k + 1 => orc f k ||| f k
def ole32 (a b : Int32) : Prop := a ||| b = b
theorem ole32_refl (a : Int32) : ole32 a a := Int32.or_self
theorem ole32_0 (a : Int32) : ole32 0 a := Int32.zero_or
theorem ole32_or {a b x : Int32} (h1 : ole32 a x) (h2 : ole32 b x) : ole32 (a ||| b) x := by
  unfold ole32 at *
  rw [Int32.or_assoc, h2, h1]
theorem ole32_l {a x y : Int32} (h : ole32 a x) : ole32 a (x ||| y) := by
  unfold ole32 at *
  rw [← Int32.or_assoc, h]
theorem ole32_r (x y : Int32) : ole32 y (x ||| y) := by
  unfold ole32
  rw [Int32.or_comm x y, ← Int32.or_assoc, Int32.or_self]
theorem ole32_as {a b : Int32} (h1 : ole32 a b) (h2 : ole32 b a) : a = b := by
  unfold ole32 at *
  rw [← h1, Int32.or_comm, h2]
theorem orc_le {f : Nat → Int32} {x : Int32} : ∀ k, (∀ i, i < k → ole32 (f i) x) → ole32 (orc f k) x
  | 0, _ => ole32_0 x
  | k + 1, h => ole32_or (orc_le k (fun i hi => h i (by omega))) (h k (Nat.lt_succ_self k))
theorem le_orc {f : Nat → Int32} : ∀ k i, i < k → ole32 (f i) (orc f k)
  | 0, _, h => absurd h (Nat.not_lt_zero _)
  | k + 1, i, h => by
    by_cases e : i = k
    · subst e
      exact ole32_r _ _
    · exact ole32_l (le_orc k i (by omega))
/-- over all codes that have a time, or over all that came -/
theorem orc_two {tk : Nat → Option Nat} {q : Nat → Nat} {n : Nat} (I : RI tk q n) (F : Nat → Int32) : orc (fun c => if tk c = none then (0 : Int32) else F c) 7986 = orc (fun i => F (q i)) n := by
  refine ole32_as (orc_le _ (fun c hc => ?_)) (orc_le _ (fun i hi => ?_))
  · show ole32 (if tk c = none then (0 : Int32) else F c) _
    cases e : tk c with
    | none =>
      rw [if_pos rfl]
      exact ole32_0 _
    | some t =>
      rw [if_neg (fun w => by cases w)]
      obtain ⟨_, _, i, hi, ei⟩ := I.2.2 c t e
      rw [← ei]
      exact le_orc (f := fun i => F (q i)) n i hi
  · obtain ⟨h1, t, h2⟩ := I.2.1 i hi
    have := le_orc (f := fun c => if tk c = none then (0 : Int32) else F c) 7986 (q i) h1
    have e : (if tk (q i) = none then (0 : Int32) else F (q i)) = F (q i) := if_neg (by rw [h2]; intro w; cases w)
    show ole32 (F (q i)) _
    rw [← e]
    exact this
