/-! ferries: the start, both sides -/
def oz : OD := fun _ => some 0
theorem clo_oz : clo oz := fun _ _ _ _ _ _ => (show (0 : Int) ≤ 0 + 0 by decide)
theorem omin_no (a : Option Int) : omin a none = a := by cases a <;> rfl
theorem omin_no2 (a : Option Int) : omin none a = a := by cases a <;> rfl
section FY16
variable {s : Nat → Int32} {u : Nat → Int32}
theorem okp_oz (hu : ∀ c, c < 3 → isC 10 (u c)) : okp 3 u oz = oz := funext fun m => by
  unfold okp
  by_cases q : m % 4 = 3 ∧ m / 4 < 3
  · rw [if_pos q]
    by_cases c : u (m / 4) = 10
    · rw [if_pos c]
      exact omin_no _
    · rw [if_neg c]
      obtain ⟨n, hn, e⟩ := hu _ q.2
      refine omin_eq_l ?_
      show (0 : Int) ≤ (u (m / 4)).toInt
      rw [e, big_t (by omega)]
      omega
  · rw [if_neg q]
theorem EB_oz : EB (-2560) 81 oz := ⟨fun _ _ => rfl, fun _ _ => ⟨0, rfl, Int.le_refl _⟩, fun i hi t ht => by
  cases ht
  omega⟩
theorem clo_dz : clo (odelay oz) := fun k hk i hi j hj => by
  rcases or4 hk with rfl | rfl | rfl | rfl <;> rcases or4 hi with rfl | rfl | rfl | rfl <;> rcases or4 hj with rfl | rfl | rfl | rfl <;> first
    | exact True.intro
    | exact (show (0 : Int) ≤ 0 + 0 by decide)
theorem st_isC (hc : ∀ i, i < 18 → isC 10 (s (84 + i))) : ∀ c, c < 3 → isC 10 (st3 s 0 c) := fun c h => hc (3 * 0 + c) (by omega)
theorem oE3_oz (hc : ∀ i, i < 18 → isC 10 (s (84 + i))) : oE3 s 0 oz = oz := by
  unfold oE3
  rw [okp_oz (st_isC hc), otl_clo clo_oz 4 (Nat.le_refl _)]
theorem nn_oz : nn oz := dg0_nn EB_oz.1
/-- what the start's row is -/
def oR0 (s : Nat → Int32) : OD := oE5 s 0 (oE3 s 0 oz)
theorem oR0_EB (hc : ∀ i, i < 18 → isC 10 (s (84 + i))) : EB (-160) 27 (oR0 s) := ((stp_ok (st_isC hc) EB_oz).2 (by rw [oE3_oz hc]; exact nn_oz)).2.2.2.2.2
theorem oW_in (hc : ∀ i, i < 18 → isC 10 (s (84 + i))) (hn : nn (oE3 s 0 (odelay oz))) : ∀ i, i < 16 → ∀ t, oE3 s 0 (odelay oz) i = some t → 0 ≤ t ∧ t ≤ 9 := fun i hi t ht => by
  have hu := st_isC hc
  have d1 : dle oz (oE3 s 0 (odelay oz)) := otl_least (okp_keep (by rw [okp_oz hu]; exact dle_refl _)) clo_oz
  have lo : 0 ≤ t := by
    have := d1 i hi
    rw [ht] at this
    exact this
  refine ⟨lo, ?_⟩
  have up := otl_le (okp 3 (st3 s 0) (odelay oz)) 4
  by_cases q : i % 4 = 3 ∧ i / 4 < 3
  · by_cases c : ∃ c, c < 3 ∧ st3 s 0 c ≠ 10
    · obtain ⟨c, hc3, ne⟩ := c
      obtain ⟨n, hn10, en⟩ := hu c hc3
      have hn9 : n ≤ 9 := Nat.le_of_lt_succ (Nat.lt_of_le_of_ne hn10 (fun w => ne (by rw [en, w]; rfl)))
      have h1 := up (4 * c + 3) (by omega)
      have e1 : okp 3 (st3 s 0) (odelay oz) (4 * c + 3) = some (n : Int) := by
        unfold okp
        rw [if_pos (show (4 * c + 3) % 4 = 3 ∧ (4 * c + 3) / 4 < 3 by omega), show (4 * c + 3) / 4 = c by omega, if_neg ne]
        unfold odelay
        rw [if_pos (show (4 * c + 3) % 4 = 3 ∧ (4 * c + 3) / 4 < 3 by omega), omin_no2, en, big_t (by omega)]
      rw [e1] at h1
      have h2 := up (4 * (i / 4) + c) (by omega)
      have e2 : okp 3 (st3 s 0) (odelay oz) (4 * (i / 4) + c) = some 0 := by
        unfold okp
        rw [if_neg (by omega)]
        unfold odelay
        rw [if_neg (by omega)]
        rfl
      rw [e2] at h2
      have h3 := (clo_otl hn) c (by omega) (i / 4) (by omega) 3 (by decide)
      have h4 := ole_trans h3 (oadd_mono h2 h1)
      rw [show 4 * (i / 4) + 3 = i by omega] at h4
      have ht : otl (okp 3 (st3 s 0) (odelay oz)) 4 i = some t := ht
      rw [ht] at h4
      have h4 : t ≤ 0 + (n : Int) := h4
      omega
    · have e1 : okp 3 (st3 s 0) (odelay oz) = odelay oz := funext fun m => by
        unfold okp
        by_cases q : m % 4 = 3 ∧ m / 4 < 3
        · rw [if_pos q, if_pos (Classical.not_not.mp (fun w => c ⟨_, q.2, w⟩)), omin_no]
        · rw [if_neg q]
      unfold oE3 at ht
      rw [e1, otl_clo clo_dz 4 (Nat.le_refl _)] at ht
      unfold odelay at ht
      rw [if_pos q] at ht
      cases ht
  · have h1 := up i hi
    have e1 : okp 3 (st3 s 0) (odelay oz) i = some 0 := by
      unfold okp
      rw [if_neg q]
      unfold odelay
      rw [if_neg q]
      rfl
    have ht : otl (okp 3 (st3 s 0) (odelay oz)) 4 i = some t := ht
    rw [e1, ht] at h1
    have h1 : t ≤ 0 := h1
    omega
/-- the start's row needs no widening -/
theorem oR0_eq (hc : ∀ i, i < 18 → isC 10 (s (84 + i))) : ∀ i, i < 16 → oE3 s 0 (odelay oz) i = oR0 s i := fun i hi => by
  have r := (stp_ok (st_isC hc) EB_oz).2 (by rw [oE3_oz hc]; exact nn_oz)
  rw [oE3_oz hc] at r
  obtain ⟨_, n4, _⟩ := r
  have e1 : ∀ i, i < 16 → owiden (oE3 s 0 (odelay oz)) i = oE3 s 0 (odelay oz) i := fun i hi => by
    have h1 := oW_in hc n4 i hi
    show owid1 (oE3 s 0 (odelay oz) i) = _
    cases e : oE3 s 0 (odelay oz) i with
    | none => rfl
    | some t =>
      have := h1 t e
      show (if 9 < t then none else some (if t < -10 then -10 else t)) = _
      rw [if_neg (by omega), if_neg (by omega)]
  unfold oR0 oE5
  rw [oE3_oz hc, deq_otl e1 i hi]
  exact (congrFun (otl_clo (clo_otl n4) 4 (Nat.le_refl _)) i).symm
end FY16
theorem f_start {h : HH} (o : OKH h) (m : Rm 2 17 h) : ∃ d, F_X2_start h = some (some (hSz h), mkZ h d) ∧ rep 9999 d oz := by
  obtain ⟨d, ed, _⟩ := z_init o.2 m
  have row : ∀ i, i < 4 → ∀ x : ZS, (∀ k, k < 4 * i → x k = 0) → ∃ x', lp (fun y => F_X2_start_B17 (some (hSz h)) (I32 i) y.1 y.2) 100000 ((0 : Int32), mkZ h x) = some (mkZ h x') ∧ ∀ k, k < 4 * (i + 1) → x' k = 0 := fun i hi x hx => by
    obtain ⟨Y, eL, x', e2, h2⟩ := lp_inv0 (B := fun y => F_X2_start_B17 (some (hSz h)) (I32 i) y.1 y.2) (Q := fun Y => ∃ x', Y = mkZ h x' ∧ ∀ k, k < 4 * (i + 1) → x' k = 0) (fuel := 100000) (x := ((0 : Int32), mkZ h x)) (fun j y => y.1 = I32 j ∧ ∃ x', y.2 = mkZ h x' ∧ ∀ k, k < 4 * i + j → x' k = 0) 4 (fun j hj y hy => by
      obtain ⟨w, Y⟩ := y
      obtain ⟨e1, x', e2, h2⟩ := hy
      have e1 : w = I32 j := e1
      have e3 : Y = mkZ h x' := e2
      clear e2
      subst e1
      subst e3
      refine ⟨_, by
        show F_X2_start_B17 (some (hSz h)) (I32 i) (I32 j) (mkZ h x') = _
        unfold F_X2_start_B17
        rw [if_neg (zi3 j hj), v_isO (mkZ_ZA o x').1, bind_some9, z_sets hi hj (mkZ_ZA o x'), bind_some9, mkZ_pz, zi4 j hj], rfl, _, rfl, fun k hk => ?_⟩
      unfold upd
      by_cases e : k = 4 * i + j
      · rw [if_pos e]
      · rw [if_neg e]
        exact h2 k (by omega)) (fun y hy => by
      obtain ⟨w, Y⟩ := y
      obtain ⟨e1, x', e2, h2⟩ := hy
      have e1 : w = I32 4 := e1
      subst e1
      refine ⟨Y, ?_, x', e2, fun k hk => h2 k (by omega)⟩
      show F_X2_start_B17 (some (hSz h)) (I32 i) (I32 4) Y = _
      unfold F_X2_start_B17
      exact if_pos (by decide)) ⟨rfl, x, rfl, fun k hk => hx k (by omega)⟩ (by decide)
    exact ⟨x', by rw [eL, e2], h2⟩
  obtain ⟨Y, eL, x', e2, h2⟩ := lp_inv0 (B := fun y => F_X2_start_B10 (some (hSz h)) y.1 y.2) (Q := fun Y => ∃ x', Y = mkZ h x' ∧ ∀ k, k < 16 → x' k = 0) (fuel := 100000) (x := ((0 : Int32), mkZ h d)) (fun i y => y.1 = I32 i ∧ ∃ x', y.2 = mkZ h x' ∧ ∀ k, k < 4 * i → x' k = 0) 4 (fun i hi y hy => by
    obtain ⟨w, Y⟩ := y
    obtain ⟨e1, x', e2, h2⟩ := hy
    have e1 : w = I32 i := e1
    have e3 : Y = mkZ h x' := e2
    clear e2
    subst e1
    subst e3
    obtain ⟨x2, e4, h4⟩ := row i hi x' h2
    refine ⟨_, by
      show F_X2_start_B10 (some (hSz h)) (I32 i) (mkZ h x') = _
      unfold F_X2_start_B10
      rw [if_neg (zi3 i hi), e4, bind_some9, zi4 i hi], rfl, x2, rfl, h4⟩) (fun y hy => by
    obtain ⟨w, Y⟩ := y
    obtain ⟨e1, x', e2, h2⟩ := hy
    have e1 : w = I32 4 := e1
    subst e1
    refine ⟨Y, ?_, x', e2, fun k hk => h2 k (by omega)⟩
    show F_X2_start_B10 (some (hSz h)) (I32 4) Y = _
    unfold F_X2_start_B10
    exact if_pos (by decide)) ⟨rfl, d, rfl, fun k hk => absurd hk (by omega)⟩ (by decide)
  refine ⟨x', ?_, fun i hi => ?_⟩
  · unfold F_X2_start
    rw [v_newO (m.mono (by decide) (by decide)), bind_some9, show nnl (some (hSz h)) = some (hSz h) from rfl, bind_some9, ed, bind_some9, eL, bind_some9, e2]
  · show (x' i).toInt = 0 ∧ (0 : Int) < 9999
    rw [h2 i hi]
    exact ⟨rfl, by decide⟩
section FY16B
variable {h h' : HH} {dk N stD alD sh z arD capD : Nat} {s f : Nat → Int32} {w : Int32} {qD : Nat → Option Nat} {la le mo : Nat → Nat}
/-- all zones of ferries, the component's side -/
theorem f_gathered (o : OKH h) (z0 : hz0 h) (D : DW h dk s N stD alD sh z w f arD capD qD la le mo) (m : Rm 4000 70000 h) : ∃ h' n g, oend s N (1, fun _ => (0, oR0 s, 0)) = (n, g) ∧ Gr (fun a => a < hSz h) 3000 60000 h h' ∧ SW n g ∧ n ≤ 130 ∧ (∀ i j, i ≤ j → j < n → (g i).2.2 ≤ (g j).2.2) ∧ ((120 < n ∧ F_X2_gathered dk h = some (none, h')) ∨ (n ≤ 120 ∧ ∃ al ar cap q, F_X2_gathered dk h = some (some al, h') ∧ StL h' al ar cap n q g)) := by
  have hc := D.2.2.2.1
  obtain ⟨h1, eh1⟩ : ∃ h1, h1 = hpush h (.inr (8, [.int 0, .ref (hSa h 0), .int 0])) 3 := ⟨_, rfl⟩
  have g1 : Gr (fun a => a < hSz h) 1 3 h h1 := by
    rw [eh1]
    exact Gr.push o _ 3 (Nat.lt_irrefl _)
  have sz1 : hSz h1 = hSz h + 1 := by rw [eh1]; rfl
  have c1 : hF h1 (hSz h) = some (.inr (8, [.int 0, .ref (hSa h 0), .int 0])) := by rw [eh1]; exact hF_push_eq _ _ _
  have m1 := m.gr g1 (by decide) (by decide)
  obtain ⟨d0, e2, r0⟩ := f_start g1.ok (m1.mono (by decide) (by decide))
  have gm : ∀ e, Gr (fun a => a < hSz h1) 2 17 h1 (mkZ h1 e) := fun e => mkZ_gr g1.ok e (fun a q => q)
  have gm0 : ∀ e, Gr (fun a => a < hSz h) 3 20 h (mkZ h1 e) := fun e => g1.tr ((gm e).sub (fun a q => Nat.lt_of_lt_of_le q g1.2.2.2.1))
  obtain ⟨Cm, Hm, hs, _, _, _, _⟩ := D.gr o (gm0 d0)
  have n3 : nn (oE3 s 0 oz) := by rw [oE3_oz hc]; exact nn_oz
  obtain ⟨d1, e3, r1⟩ : ∃ d', F_X2_arrived dk (I32 0) (some (hSz h1)) (mkZ h1 d0) = some (some (hSz h1), mkZ h1 d') ∧ rep 9999 d' (oR0 s) := by
    rcases f_arrived Cm Hm hs (p := 0) (by decide) hc (mkZ_ZA g1.ok d0) r0 EB_oz with ⟨q, _⟩ | ⟨_, d', e, r⟩
    · exact absurd n3 q
    · rw [mkZ_pz] at e
      exact ⟨d', e, r⟩
  have e3 : F_X2_arrived dk (0 : Int32) (some (hSz h1)) (mkZ h1 d0) = some (some (hSz h1), mkZ h1 d1) := e3
  have o2 := (gm0 d1).ok
  have m2 := m.gr (gm0 d1) (by decide) (by decide)
  obtain ⟨h2, eh2⟩ : ∃ h2, h2 = hpush (mkZ h1 d1) (.inr (5, [.int 0, .ref (hSz h1), .int 0])) 3 := ⟨_, rfl⟩
  have gp : Gr (fun a => a < hSz (mkZ h1 d1)) 1 3 (mkZ h1 d1) h2 := by
    rw [eh2]
    exact Gr.push o2 _ 3 (Nat.lt_irrefl _)
  have szm : hSz (mkZ h1 d1) = hSz h + 3 := by
    show hSz h1 + 1 + 1 = _
    omega
  have g2 : Gr (fun a => a < hSz h) 4 23 h h2 := (gm0 d1).tr (gp.sub (fun a (q : a < hSz h) => by show a < hSz (mkZ h1 d1); omega))
  have c2 : hF h2 (hSz h) = some (.inr (8, [.int 0, .ref (hSa h2 0), .int 0])) := by
    rw [gp.2.1 _ (show hSz h < hSz (mkZ h1 d1) by omega), (gm d1).2.1 _ (show hSz h < hSz h1 by omega), hSa_of g2.1]
    exact c1
  have A2 : AL h2 (hSz h) (hSa h2 0) 0 0 (fun _ => none) := al_0 c2 (by rw [g2.b]; exact o.2) (z0.gr o g2 (Nat.le_refl _))
  have m3 := m.gr g2 (by decide) (by decide)
  have bm : hB h2 ≤ hSz (mkZ h1 d1) := by
    rw [gp.b]
    exact o2.2
  have cs : hF h2 (hSz (mkZ h1 d1)) = some (.inr (5, [.int 0, .ref (hSz h1), .int 0])) := by
    rw [eh2]
    exact hF_push_eq _ _ _
  obtain ⟨h3, ar', cap', q', e4, ga, A4, ha4, q4, qn⟩ := al_add g2.ok A2 (by decide) (z0.gr o g2 (Nat.le_refl _)) (m3.mono (by decide) (by decide)) cs bm (show okst 2 5 = true by decide) (by omega)
  have g3 : Gr (fun a => a < hSz h) 5 223 h h3 := g2.tr (ga.sub (fun a (q : a < hSz h) => ⟨Nat.lt_of_lt_of_le q g2.2.2.2.1, by omega, Or.inr rfl⟩))
  have S3 : StL h3 (hSz h) ar' cap' 1 q' (fun _ => (0, oR0 s, 0)) := ⟨A4, fun i hi => by
    have : i = 0 := by omega
    subst this
    have S0 : StC h2 (hSz (mkZ h1 d1)) (0, oR0 s, 0) := ⟨hSz h1, hSz h1 + 1, d1, cs, bm, (mkZ_ZA g1.ok d1).gr gp (o2.lt (mkZ_ZA g1.ok d1).1) (o2.lt (mkZ_ZA g1.ok d1).2.1), r1⟩
    exact ⟨_, qn, S0.put g2.ok A2 ga⟩⟩
  have W1 : SW 1 (fun _ => (0, oR0 s, 0)) := fun i hi => ⟨Nat.zero_le _, oR0_EB hc, Nat.zero_le _⟩
  have T1 : Srt 0 1 (fun _ => (0, oR0 s, 0)) := ⟨fun i j _ _ => Nat.le_refl _, fun _ j _ => Nat.zero_le _⟩
  obtain ⟨h4, ar4, cap4, q5, n, g, e5, oe, S4, g4, W4, n130, srt⟩ := f_stops (al := hSz h) o z0 D g3 S3 W1 T1 (Nat.le_refl _) (Nat.le_refl _) (fun hc' => by
    rcases ha4 with ⟨_, w2⟩ | w1
    · exact absurd rfl w2
    · have := g2.2.2.2.1
      omega) ((m.gr g3 (by decide) (by decide)).mono (by decide) (by decide))
  have tail : F_X2_gathered dk h = some ((if I32 n ≤ (120 : Int32) then some (hSz h) else none), h4) := by
    unfold F_X2_gathered F_X2_gathered_T36
    rw [v_newO (m.mono (by decide) (by decide)), bind_some9, show nnl (some (hSz h)) = some (hSz h) from rfl, bind_some9, a_stList o, bind_some9, ← eh1, e2, b2_s, v_isO Cm, bind_some9, e3, b2_s, if_neg (fun q => by cases q), v_newO (m2.mono (by decide) (by decide)), bind_some9, show nnl (some (hSz (mkZ h1 d1))) = some (hSz (mkZ h1 d1)) from rfl, bind_some9, v_stop o2, bind_some9, ← eh2, A2.size.1, bind_some9, e4, b2_s, e5, bind_some9, S4.1.size.1, bind_some9, S4.1.size.2, bind_some9]
  refine ⟨h4, n, g, oe, (g3.tr g4).mono (by decide) (by decide), W4, n130, srt, ?_⟩
  by_cases c : n ≤ 120
  · refine Or.inr ⟨c, _, ar4, cap4, q5, ?_, S4⟩
    rw [tail, if_pos (show I32 n ≤ (120 : Int32) from (i32le (n := n) (j := 120) (by omega) (by decide)).mpr c)]
  · refine Or.inl ⟨by omega, ?_⟩
    rw [tail, if_neg (show ¬ I32 n ≤ (120 : Int32) from fun q => c ((i32le (n := n) (j := 120) (by omega) (by decide)).mp q))]
/-- all zones of ferries, the model's side -/
theorem m_spreads {S : MS} (e0 : S.1 0 = s) (G : GoodS s) (hN : N ≤ 10) (h102 : s 102 = I32 N) (hL : ∀ l, l < N → lineOK s l) : ∃ S' n g, P_X4_spreads S = some ((if 120 < n then (0 : Int32) else (1 : Int32)), S') ∧ MSt S' n g ∧ SW n g ∧ FK S S' ∧ (oend s N (1, fun _ => (0, oR0 s, 0)) = (n, g) ∨ (120 < n ∧ 120 < (oend s N (1, fun _ => (0, oR0 s, 0))).1)) := by
  have hc := G.2.2.2.1
  obtain ⟨S1, eS1⟩ : ∃ S1, S1 = setI S 16 0 := ⟨_, rfl⟩
  have k1 : FK S S1 := by
    rw [eS1]
    exact (FK.rf S).i 0
  obtain ⟨Y, eL, d, e2, hd⟩ := lp_inv0 (B := fun y => P_X4_spreads_B7 y.1 y.2) (Q := fun Y => ∃ d, Y = setA S1 9 d ∧ ∀ i, i < 16 → d i = 0) (fuel := 100000) (x := ((0 : Int32), S1)) (fun j y => y.1 = I32 j ∧ ∃ d, y.2 = setA S1 9 d ∧ ∀ i, i < j → d i = 0) 16 (fun j hj y hy => by
    obtain ⟨w, Y⟩ := y
    obtain ⟨e1, d, e2, h2⟩ := hy
    have e1 : w = I32 j := e1
    have e3 : Y = setA S1 9 d := e2
    clear e2
    subst e1
    subst e3
    refine ⟨_, by
      show P_X4_spreads_B7 (I32 j) (setA S1 9 d) = _
      unfold P_X4_spreads_B7
      rw [if_neg (n16 hj), wr_i _ (show ix (I32 j) j (mlen 9) from ix_of j 16 hj (by decide)), bind_some9, setA_get, setA_set, i32s j (by omega)], rfl, _, rfl, fun k hk => ?_⟩
    unfold upd
    by_cases e : k = j
    · rw [if_pos e]
    · rw [if_neg e]
      exact h2 k (by omega)) (fun y hy => by
    obtain ⟨w, Y⟩ := y
    obtain ⟨e1, d, e2, h2⟩ := hy
    have e1 : w = I32 16 := e1
    subst e1
    refine ⟨Y, ?_, d, e2, h2⟩
    show P_X4_spreads_B7 (I32 16) Y = _
    unfold P_X4_spreads_B7
    exact if_pos (by decide)) ⟨rfl, S1.1 9, (setA_self S1 9).symm, fun k hk => absurd hk (Nat.not_lt_zero k)⟩ (by decide)
  have r0 : rep 100000 d oz := fun i hi => by
    show (d i).toInt = 0 ∧ (0 : Int) < 9999
    rw [hd i hi]
    exact ⟨rfl, by decide⟩
  obtain ⟨d2, e3, r2⟩ := m_delays S1 r0
  obtain ⟨ec1, rest⟩ := stp_ok (st_isC hc) EB_oz
  have rest := rest (by rw [oE3_oz hc]; exact nn_oz)
  rw [oE3_oz hc] at rest
  obtain ⟨ec2, n4, _⟩ := rest
  obtain ⟨v, t, e4, r4, f4⟩ := m_staysS (S := S1) (p := 0) (by rw [k1.e0, e0]; exact G) (by decide) r2 (by rw [k1.e0, e0]; exact ec2)
  rw [k1.e0, e0] at r4 f4
  have e4 : P_X4_staysIn (0 : Int32) (setA S1 9 d2) = some (v, setA S1 9 t) := e4
  have k4 : FK S (setA S1 9 t) := k1.a (Or.inl rfl) t
  have M0 : MSt (setA S1 9 t) 0 (fun _ => (0, oR0 s, 0)) := ⟨by
    show S1.2.1 16 = I32 0
    rw [eS1]
    exact setI_get _ _ _, by decide, fun i hi => absurd hi (Nat.not_lt_zero i)⟩
  obtain ⟨S5, e5, k5, M5⟩ := m_adds (p := 0) (w := 0) (E := oR0 s) M0 (by decide) (by rw [setA_get]; exact rep_congr r4 (oR0_eq hc))
  have e5 : P_X4_adds (0 : Int32) (0 : Int32) (setA S1 9 t) = some S5 := e5
  have W1 : SW 1 (fun _ => (0, oR0 s, 0)) := fun i hi => ⟨Nat.zero_le _, oR0_EB hc, Nat.zero_le _⟩
  have M6 : MSt S5 1 (fun _ => (0, oR0 s, 0)) := ⟨M5.1, by decide, fun i hi => by
    have := M5.2.2 i (by omega)
    have : i = 0 := by omega
    subst this
    exact M5.2.2 0 (by decide)⟩
  obtain ⟨S6, e6, n, g, M7, W7, k7, hR⟩ := m_stops (S := S5) (k5.e0.trans (k4.e0.trans e0)) G hN h102 hL M6 W1
  refine ⟨S6, n, g, ?_, M7, W7, (k4.tr k5).tr k7, hR⟩
  unfold P_X4_spreads
  rw [show piI S 16 (0 : Int32) = some S1 from by rw [eS1]; rfl, bind_some9, eL, bind_some9, e2, e3, pb2_s, e4, pb2_s, if_neg (fun w => (fl_0 f4).mp w n4), if_neg (ocnt_ge _), if_neg (by decide), e5, bind_some9]
  unfold P_X4_spreads_T59 pgI
  rw [e6, bind_some9, M7.1, bind_some9]
  have h121 := M7.2.1
  by_cases c : 120 < n
  · rw [if_pos c, if_pos (Int32.lt_iff_toInt_lt.mpr (by rw [i32t (by omega), show (120 : Int32).toInt = 120 from rfl]; omega))]
  · rw [if_neg c, if_neg (fun w => by have w := Int32.lt_iff_toInt_lt.mp w; rw [i32t (by omega), show (120 : Int32).toInt = 120 from rfl] at w; omega)]
end FY16B
