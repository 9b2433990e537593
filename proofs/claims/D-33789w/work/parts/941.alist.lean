/-! the list: what add does to it -/
def capL : List Nat := [0, 10, 15, 22, 33, 49, 73, 109, 163]
def nxtC (c : Nat) : Nat := if c = 0 then 10 else c + c / 2
theorem cap_le {c : Nat} (h : c ∈ capL) : c ≤ 163 := by
  have : ∀ c ∈ capL, c ≤ 163 := by decide
  exact this c h
theorem cap_nx : ∀ c ∈ capL, c ≠ 163 → nxtC c ∈ capL ∧ c < nxtC c := by decide
/-- a list of N objects, in an array -/
def AL (h : HH) (al ar cap N : Nat) (q : Nat → Option Nat) : Prop := (∃ mc, hF h al = some (.inr (8, [.int mc, .ref ar, .int (I32 N)]))) ∧ hB h ≤ al ∧ hF h ar = some (.inl (2, cap, .inr (.inr q))) ∧ N ≤ cap ∧ cap ∈ capL ∧ (cap = 0 → ar = hSa h 0) ∧ (cap ≠ 0 → hB h ≤ ar) ∧ (∀ i, i < N → okstH h 2 (q i) = true)
theorem okstH_keep {h h' : HH} (hb : hB h' = hB h) (k : ∀ a fs c, hF h a = some (.inr (c, fs)) → ∃ fs', hF h' a = some (.inr (c, fs'))) {t : Nat} {v : Option Nat} (o : okstH h t v = true) : okstH h' t v = true := by
  cases v with
  | none => rfl
  | some b =>
    unfold okstH at o ⊢
    simp only at o ⊢
    split at o
    · rename_i ci fs e
      obtain ⟨fs', e'⟩ := k b fs ci e
      rw [e', hb]
      exact o
    · cases o
theorem hset_push_eq (h : HH) (e e' : AC) (k : Nat) : hset (hpush h e k) (hSz h) e' = hpush h e' k := by
  unfold hset hpush
  simp only [hSz]
  congr 3
  funext a
  unfold va_up
  split <;> rfl
theorem hset_push_ne {h : HH} {a : Nat} (n : a ≠ hSz h) (e e' : AC) (k : Nat) : hset (hpush h e k) a e' = hpush (hset h a e') e k := by
  unfold hset hpush
  simp only [hSz] at n ⊢
  congr 3
  funext b
  unfold va_up
  by_cases e1 : b = a
  · rw [if_pos e1, if_neg (fun e2 => n (e1.symm.trans e2)), if_pos e1]
  · rw [if_neg e1]
    split <;> rfl
section AAL
variable {h : HH} {al ar cap N e c : Nat} {q : Nat → Option Nat} {fs : List Value}
/-- the element laid behind the others, where there is room in the array -/
theorem al_put (o : OKH h) {mc : Int32} (C : hF h al = some (.inr (8, [.int mc, .ref ar, .int (I32 N)]))) (hb : hB h ≤ al) (R : hF h ar = some (.inl (2, cap, .inr (.inr q)))) (hN : N < cap) (hc : cap ≤ 163) (hr : hB h ≤ ar) (he : hF h e = some (.inr (c, fs))) (hbe : hB h ≤ e) (hk : okst 2 c = true) : ∃ h', F_J2_add_2_T11 al (some e) (some ar) (I32 N) (some ar) h = some h' ∧ Gr (fun a => a ≠ al ∧ a ≠ ar) 0 0 h h' ∧ hF h' al = some (.inr (8, [.int mc, .ref ar, .int (I32 (N + 1))])) ∧ hF h' ar = some (.inl (2, cap, .inr (.inr (va_up q N (some e))))) := by
  have n1 : al ≠ ar := fun z => by
    rw [z, R] at C
    cases C
  have e1 : astR h 2 (some ar) (I32 N) (some e) = some (hset h ar (.inl (2, cap, .inr (.inr (va_up q N (some e)))))) := v_astR R (ix_of N cap hN (by omega)) hr (v_okst he hbe hk) (Or.inl rfl)
  have C1 : hF (hset h ar (.inl (2, cap, .inr (.inr (va_up q N (some e)))))) al = some (.inr (8, [.int mc, .ref ar, .int (I32 N)])) := by rw [hF_set_ne _ _ n1]; exact C
  have g1 : Gr (fun a => a ≠ al ∧ a ≠ ar) 0 0 h (hset h ar (.inl (2, cap, .inr (.inr (va_up q N (some e)))))) := Gr.set o R (fun z => z.2 rfl)
  have hp : putV (hset h ar (.inl (2, cap, .inr (.inr (va_up q N (some e)))))) 8 2 (some al) (.int (I32 N + 1)) = some (hset (hset h ar (.inl (2, cap, .inr (.inr (va_up q N (some e)))))) al (.inr (8, [.int mc, .ref ar, .int (I32 N + 1)]))) := v_putV C1 (by show 2 < 3; decide) hb
  unfold F_J2_add_2_T11
  rw [e1, bind_some9, hp, bind_some9]
  refine ⟨_, rfl, g1.tr (Gr.set g1.ok C1 (fun z => z.1 rfl)), ?_, ?_⟩
  · rw [hF_set_eq, i32s N (by omega)]
  · rw [hF_set_ne _ _ (Ne.symm n1), hF_set_eq]
theorem newLen : ∀ c ∈ capL, c ≠ 0 → ∀ h : HH, F_J10_newLength (I32 c) ((I32 c + 1) - I32 c) ((I32 c) >>> ((1 : Int32) &&& 31)) h = some (I32 (nxtC c)) := by
  intro c hc
  have : c = 0 ∨ c = 10 ∨ c = 15 ∨ c = 22 ∨ c = 33 ∨ c = 49 ∨ c = 73 ∨ c = 109 ∨ c = 163 := by
    unfold capL at hc
    simpa using hc
  rcases this with rfl | rfl | rfl | rfl | rfl | rfl | rfl | rfl | rfl
  · exact fun z => absurd rfl z
  all_goals
    intro _ h
    rfl
theorem al_ofNat : ∀ n : Nat, Int32.ofNat n = I32 n := fun _ => rfl
/-- room for one more -/
theorem al_grow (o : OKH h) (A : AL h al ar cap N q) (hN : N = cap) (h163 : cap ≠ 163) (hz : hF h (hSa h 0) = some (.inl (2, 0, .inr (.inr fun _ => none)))) (m : Rm 1 200 h) : ∃ h' ar' q', F_J2_grow al h = some (some ar', h') ∧ Gr (fun a => a < hSz h ∧ a ≠ al) 1 200 h h' ∧ AL h' al ar' (nxtC cap) N q' ∧ hSz h ≤ ar' ∧ (∀ i, i < N → q' i = q i) := by
  obtain ⟨⟨mc, C⟩, hb, R, hNc, hcap, h0, hr, hok⟩ := A
  have hc := cap_le hcap
  obtain ⟨nx1, nx2⟩ := cap_nx cap hcap h163
  have nx3 := cap_le nx1
  have lt := o.lt C
  unfold F_J2_grow
  rw [v_getI C rfl, bind_some9, v_isO C, bind_some9]
  unfold F_J2_grow_2
  rw [v_getR C rfl, bind_some9, v_alen R (by decide), bind_some9, al_ofNat]
  have ms : Rm 1 (nxtC cap) h := m.mono (by decide) (by omega)
  have g1 : ∀ ec : AC, Gr (fun a => a < hSz h ∧ a ≠ al) 1 200 h (hpush h ec (nxtC cap)) := fun ec => (Gr.push o _ _ (fun z => Nat.lt_irrefl _ z.1)).mono (by decide) (by omega)
  have C1 : ∀ ec : AC, hF (hpush h ec (nxtC cap)) al = some (.inr (8, [.int mc, .ref ar, .int (I32 N)])) := fun ec => by rw [hF_push_ne _ _ _ (o.ne C)]; exact C
  have fin : ∀ ec : AC, putV (hpush h ec (nxtC cap)) 8 1 (some al) (va_rf (some (hSz h))) = some (hset (hpush h ec (nxtC cap)) al (.inr (8, [.int mc, .ref (hSz h), .int (I32 N)]))) := fun ec => v_putV (C1 ec) (by show 1 < 3; decide) hb
  have g2 : ∀ ec : AC, Gr (fun a => a < hSz h ∧ a ≠ al) 1 200 h (hset (hpush h ec (nxtC cap)) al (.inr (8, [.int mc, .ref (hSz h), .int (I32 N)]))) := fun ec => (g1 ec).tr (Gr.set (g1 ec).ok (C1 ec) (fun z => z.2 rfl))
  have A2 : ∀ q' : Nat → Option Nat, (∀ i, i < N → q' i = q i) → AL (hset (hpush h (.inl (2, nxtC cap, .inr (.inr q'))) (nxtC cap)) al (.inr (8, [.int mc, .ref (hSz h), .int (I32 N)]))) al (hSz h) (nxtC cap) N q' := fun q' hq => by
    refine ⟨⟨mc, hF_set_eq _ _ _⟩, hb, ?_, by omega, nx1, fun z => ?_, fun _ => o.2, fun i hi => ?_⟩
    · rw [hF_set_ne _ _ (Ne.symm (o.ne C)), hF_push_eq]
    · exact absurd z (by omega)
    · rw [hq i hi]
      refine okstH_keep (h := h) (by rfl) (fun a fs c ha => ?_) (hok i hi)
      by_cases ea : a = al
      · subst ea
        rw [C] at ha
        cases ha
        exact ⟨_, hF_set_eq _ _ _⟩
      · rw [hF_set_ne _ _ ea, hF_push_ne _ _ _ (o.ne ha)]
        exact ⟨fs, ha⟩
  by_cases hc0 : cap = 0
  · subst hc0
    have ha := h0 rfl
    rw [if_neg (show ¬ (0 : Int32) < I32 0 by decide), bind_some9, if_pos (by rw [ha])]
    have hN0 : N = 0 := hN
    subst hN0
    have e1 : newA h 2 (F_J11_max (10 : Int32) (I32 0 + 1)) = some (hpush h (.inl (2, nxtC 0, .inr (.inr fun _ => none))) (nxtC 0)) := v_newA (by decide) (by decide) (by decide) ms
    rw [e1, bind_some9, fin (.inl (2, nxtC 0, .inr (.inr fun _ => none))), bind_some9, b2_s]
    exact ⟨_, hSz h, (fun _ => none), rfl, g2 _, A2 (fun _ => none) (fun i hi => absurd hi (Nat.not_lt_zero i)), Nat.le_refl _, fun i hi => absurd hi (Nat.not_lt_zero i)⟩
  · have hpos : (0 : Int32) < I32 cap := by
      rw [Int32.lt_iff_toInt_lt, i32t (by omega)]
      have z0 : (0 : Int32).toInt = 0 := rfl
      omega
    rw [if_pos hpos]
    unfold F_J2_grow_2_T20
    rw [hN, newLen cap hcap hc0 h, bind_some9, v_getR (by rw [hN] at C; exact C) rfl, bind_some9]
    have hra := hr hc0
    have e0 : isA h 2 (some ar) = some ar := by
      unfold isA
      simp only [R]
      exact if_pos ⟨trivial, hra⟩
    have e1 : newA h 2 (I32 (nxtC cap)) = some (hpush h (.inl (2, nxtC cap, .inr (.inr fun _ => none))) (nxtC cap)) := v_newA (fun z => (ix_of (nxtC cap) 200 (by omega) (by decide)).1 z) (ix_of (nxtC cap) 200 (by omega) (by decide)).2.1 (by omega) ms
    have R1 : hF (hpush h (.inl (2, nxtC cap, .inr (.inr fun _ => none))) (nxtC cap)) ar = some (.inl (2, cap, .inr (.inr q))) := by rw [hF_push_ne _ _ _ (o.ne R)]; exact R
    have hmin : F_J11_min (I32 cap) (I32 (nxtC cap)) = I32 cap := by
      unfold F_J11_min
      rw [if_neg (fun z => by rw [Int32.lt_iff_toInt_lt, i32t (by omega), i32t (by omega)] at z; omega)]
    have hix := ix_of cap 200 (by omega) (by decide)
    have e2 : acpR (hpush h (.inl (2, nxtC cap, .inr (.inr fun _ => none))) (nxtC cap)) (some ar) 0 (some (hSz h)) 0 (I32 cap) = some (hpush h (.inl (2, nxtC cap, .inr (.inr (va_cpy q (fun _ => none) 0 0 cap)))) (nxtC cap)) := by
      unfold acpR
      simp only [R1, hF_push_eq, hix.2.1]
      rw [if_pos, hset_push_eq]
      · rfl
      · refine ⟨⟨trivial, trivial, hra, o.2⟩, ⟨by decide, by decide, hix.1⟩, ⟨by show 0 + cap ≤ cap; omega, by show 0 + cap ≤ nxtC cap; omega⟩, ?_⟩
        rw [List.all_eq_true]
        intro i hi
        have hi : i < cap := List.mem_range.mp hi
        rw [show (0 : Int32).toNatClampNeg = 0 from rfl, Nat.zero_add]
        exact okstH_keep (h := h) (by rfl) (fun a fs c ha => ⟨fs, by rw [hF_push_ne _ _ _ (o.ne ha)]; exact ha⟩) (hok i (by omega))
    unfold F_J12_copyOf
    rw [e0, bind_some9]
    unfold F_J12_copyOf_2
    rw [if_pos rfl, e1, bind_some9, v_alen R1 (by decide), bind_some9, al_ofNat, hmin, e2, bind_some9, b2_s, b2_s, fin, bind_some9, b2_s]
    refine ⟨_, hSz h, va_cpy q (fun _ => none) 0 0 cap, rfl, g2 _, hN ▸ A2 (va_cpy q (fun _ => none) 0 0 cap) (fun i hi => ?_), Nat.le_refl _, fun i hi => ?_⟩
    · unfold va_cpy
      rw [if_pos ⟨Nat.zero_le _, by omega⟩, Nat.zero_add, Nat.sub_zero]
    · unfold va_cpy
      rw [if_pos ⟨Nat.zero_le _, by omega⟩, Nat.zero_add, Nat.sub_zero]
/-- the list with one more -/
theorem al_add (o : OKH h) (A : AL h al ar cap N q) (hN : N < 163) (hz : hF h (hSa h 0) = some (.inl (2, 0, .inr (.inr fun _ => none)))) (m : Rm 1 200 h) (he : hF h e = some (.inr (c, fs))) (hbe : hB h ≤ e) (hk : okst 2 c = true) (hne : e ≠ al) : ∃ h' ar' cap' q', F_J2_add al (some e) h = some (1, h') ∧ Gr (fun a => a < hSz h ∧ a ≠ al ∧ (a ≠ ar ∨ cap = 0)) 1 200 h h' ∧ AL h' al ar' cap' (N + 1) q' ∧ (ar' = ar ∧ cap ≠ 0 ∨ hSz h ≤ ar') ∧ (∀ i, i < N → q' i = q i) ∧ q' N = some e := by
  obtain ⟨⟨mc, C⟩, hb, R, hNc, hcap, h0, hr, hok⟩ := A
  have hcp := cap_le hcap
  have n1 : al ≠ ar := fun z => by
    rw [z, R] at C
    cases C
  have hp : putV h 8 0 (some al) (.int (mc + 1)) = some (hset h al (.inr (8, [.int (mc + 1), .ref ar, .int (I32 N)]))) := v_putV C (by show 0 < 3; decide) hb
  have g1 : Gr (fun a => a ≠ al) 0 0 h (hset h al (.inr (8, [.int (mc + 1), .ref ar, .int (I32 N)]))) := Gr.set o C (fun z => z rfl)
  have C1 := hF_set_eq h al (.inr (8, [.int (mc + 1), .ref ar, .int (I32 N)]))
  have kp : ∀ a fs c, hF h a = some (.inr (c, fs)) → ∃ fs', hF (hset h al (.inr (8, [.int (mc + 1), .ref ar, .int (I32 N)]))) a = some (.inr (c, fs')) := fun a fs c ha => by
    by_cases ea : a = al
    · subst ea
      rw [C] at ha
      cases ha
      exact ⟨_, hF_set_eq _ _ _⟩
    · exact ⟨fs, by rw [hF_set_ne _ _ ea]; exact ha⟩
  have A1 : AL (hset h al (.inr (8, [.int (mc + 1), .ref ar, .int (I32 N)]))) al ar cap N q := ⟨⟨_, C1⟩, hb, by rw [hF_set_ne _ _ (Ne.symm n1)]; exact R, hNc, hcap, h0, hr, fun i hi => okstH_keep (by rfl) kp (hok i hi)⟩
  have he1 : hF (hset h al (.inr (8, [.int (mc + 1), .ref ar, .int (I32 N)]))) e = some (.inr (c, fs)) := by rw [hF_set_ne _ _ hne]; exact he
  have hz1 : hF (hset h al (.inr (8, [.int (mc + 1), .ref ar, .int (I32 N)]))) (hSa (hset h al (.inr (8, [.int (mc + 1), .ref ar, .int (I32 N)]))) 0) = some (.inl (2, 0, .inr (.inr fun _ => none))) := by
    rw [hF_set_ne]
    · exact hz
    · intro z
      have hz2 : hF h (hSa h 0) = _ := hz
      have z : hSa h 0 = al := z
      rw [z, C] at hz2
      cases hz2
  have sz1 : hSz (hset h al (.inr (8, [.int (mc + 1), .ref ar, .int (I32 N)]))) = hSz h := rfl
  have m1 : Rm 1 200 (hset h al (.inr (8, [.int (mc + 1), .ref ar, .int (I32 N)]))) := m
  unfold F_J2_add
  rw [v_getI C rfl, bind_some9, hp, bind_some9, v_getR C1 rfl, bind_some9, v_getI C1 rfl, bind_some9, v_isO C1, bind_some9]
  generalize hset h al (.inr (8, [.int (mc + 1), .ref ar, .int (I32 N)])) = h1 at *
  unfold F_J2_add_2
  have hal : alen h1 (some ar) = some (I32 cap) := v_alen A1.2.2.1 (by decide)
  rw [hal, bind_some9]
  by_cases hNe : N = cap
  · rw [if_pos (by rw [hNe]), v_isO C1, bind_some9]
    obtain ⟨h2, ar', q', e2, g2, A2, hge, hq⟩ := al_grow g1.ok A1 hNe (by omega) hz1 m1
    rw [e2, b2_s]
    obtain ⟨⟨mc2, C2⟩, hb2, R2, hN2, hcap2, h02, hr2, hok2⟩ := A2
    obtain ⟨nx1, nx2⟩ := cap_nx cap hcap (by omega)
    have he2 : hF h2 e = some (.inr (c, fs)) := by rw [g2.2.1 e ⟨g1.ok.lt he1, hne⟩]; exact he1
    have hbe2 : hB h2 ≤ e := by rw [g2.b, g1.b]; exact hbe
    have har := hr2 (by omega)
    obtain ⟨h3, e3, g3, C3, R3⟩ := al_put g2.ok C2 hb2 R2 (by omega) (cap_le hcap2) har he2 hbe2 hk
    have ealr : F_J2_add_2_T11 al (some e) (some ar) (I32 N) (some ar') h2 = F_J2_add_2_T11 al (some e) (some ar') (I32 N) (some ar') h2 := rfl
    rw [ealr, e3, bind_some9]
    refine ⟨h3, ar', nxtC cap, va_up q' N (some e), rfl, ?_, ?_, Or.inr (by rw [← sz1]; exact hge), fun i hi => ?_, by simp [va_up]⟩
    · have g4 : Gr (fun a => a < hSz h1 ∧ a ≠ al) 0 0 h2 h3 := g3.sub (fun a z => ⟨z.2, by omega⟩)
      exact (g1.sub (fun a z => z.2.1)).tr ((g2.tr g4).sub (fun a z => ⟨by rw [sz1]; exact z.1, z.2.1⟩))
    · refine ⟨⟨mc2, C3⟩, by rw [g3.b]; exact hb2, R3, by omega, hcap2, fun z => absurd z (by omega), fun _ => by rw [g3.b]; exact har, fun i hi => ?_⟩
      have kp3 : ∀ a fs c, hF h2 a = some (.inr (c, fs)) → ∃ fs', hF h3 a = some (.inr (c, fs')) := fun a fs c ha => by
        by_cases ea : a = al
        · subst ea
          rw [C2] at ha
          cases ha
          exact ⟨_, C3⟩
        · refine ⟨fs, ?_⟩
          rw [g3.2.1 a ⟨ea, fun z => ?_⟩]
          · exact ha
          · rw [z, R2] at ha
            cases ha
      unfold va_up
      by_cases ei : i = N
      · rw [if_pos ei]
        exact okstH_keep g3.b kp3 (v_okst he2 hbe2 hk)
      · rw [if_neg ei]
        exact okstH_keep g3.b kp3 (hok2 i (by omega))
    · unfold va_up
      rw [if_neg (by omega)]
      exact hq i hi
  · have hne2 : ¬ I32 N = I32 cap := fun z => hNe (i32inj (by omega) (by omega) z)
    rw [if_neg hne2]
    have har := A1.2.2.2.2.2.2.1 (by omega)
    have hbe1 : hB h1 ≤ e := by rw [g1.b]; exact hbe
    obtain ⟨h3, e3, g3, C3, R3⟩ := al_put g1.ok C1 A1.2.1 A1.2.2.1 (by omega) hcp har he1 hbe1 hk
    rw [e3, bind_some9]
    refine ⟨h3, ar, cap, va_up q N (some e), rfl, ((g1.sub (fun a z => z.2.1)).tr (g3.sub (fun a z => ⟨z.2.1, z.2.2.elim id (fun e => absurd e (by omega))⟩))).mono (by decide) (by decide), ?_, Or.inl ⟨rfl, by omega⟩, fun i hi => ?_, by simp [va_up]⟩
    · refine ⟨⟨_, C3⟩, by rw [g3.b]; exact A1.2.1, R3, by omega, hcap, fun z => absurd z (by omega), fun _ => by rw [g3.b]; exact har, fun i hi => ?_⟩
      have kp3 : ∀ a fs c, hF h1 a = some (.inr (c, fs)) → ∃ fs', hF h3 a = some (.inr (c, fs')) := fun a fs c ha => by
        by_cases ea : a = al
        · subst ea
          rw [C1] at ha
          cases ha
          exact ⟨_, C3⟩
        · refine ⟨fs, ?_⟩
          rw [g3.2.1 a ⟨ea, fun z => ?_⟩]
          · exact ha
          · rw [z, A1.2.2.1] at ha
            cases ha
      unfold va_up
      by_cases ei : i = N
      · rw [if_pos ei]
        exact okstH_keep g3.b kp3 (v_okst he1 hbe1 hk)
      · rw [if_neg ei]
        exact okstH_keep g3.b kp3 (A1.2.2.2.2.2.2.2 i (by omega))
    · unfold va_up
      rw [if_neg (by omega)]
end AAL
