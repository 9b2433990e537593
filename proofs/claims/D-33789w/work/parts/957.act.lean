/-! a change: the desk of before goes into the history -/
theorem changed_a {h : HH} {x dk hi tx t ea hd c : Nat} {kv : Value} {q : Nat → Option Nat} {r : Int32} {fd : List Value} (o : OKH h) (C : hF h x = some (.inr (0, [.ref dk, kv, .ref hi, .ref tx]))) (hb : hB h ≤ x) (q1 : hF h hi = some (.inr (9, [.ref ea, .int (I32 hd), .int (I32 ((hd + c) % 17))]))) (q2 : hF h ea = some (.inl (2, 17, .inr (.inr q)))) (q3 : hB h ≤ hi) (q4 : hB h ≤ ea) (q5 : hd < 17) (q6 : c ≤ 4) (qn : ∀ i, i < c → ∃ d, q ((hd + i) % 17) = some d) (D : hF h dk = some (.inr (2, fd))) (hd2 : hB h ≤ dk) : ∃ h' hd' c' q', F_X1_changed x (some t) r h = some (r, h') ∧ Gr (fun a => a ≠ x ∧ a ≠ hi ∧ a ≠ ea) 0 0 h h' ∧ hF h' x = some (.inr (0, [.ref t, kv, .ref hi, .ref tx])) ∧ hF h' hi = some (.inr (9, [.ref ea, .int (I32 hd'), .int (I32 ((hd' + c') % 17))])) ∧ hF h' ea = some (.inl (2, 17, .inr (.inr q'))) ∧ hd' < 17 ∧ (c < 4 → c' = c + 1 ∧ (∀ i, i < c → q' ((hd' + i) % 17) = q ((hd + i) % 17)) ∧ q' ((hd' + c) % 17) = some dk) ∧ (c = 4 → c' = 4 ∧ (∀ i, i < 3 → q' ((hd' + i) % 17) = q ((hd + (i + 1)) % 17)) ∧ q' ((hd' + 3) % 17) = some dk) := by
  have nhe : hi ≠ ea := fun z => by rw [z, q2] at q1; cases q1
  have nxe : x ≠ ea := fun z => by rw [z, q2] at C; cases C
  have nxh : x ≠ hi := fun z => by rw [z, q1] at C; cases C
  have hT : (hd + c) % 17 < 17 := Nat.mod_lt _ (by decide)
  have hixT := ix_of ((hd + c) % 17) 17 hT (by decide)
  have eT : ((hd + c) % 17 + 1) % 17 = (hd + (c + 1)) % 17 := by omega
  obtain ⟨h1, eh1⟩ : ∃ h1, h1 = hset h ea (.inl (2, 17, .inr (.inr (va_up q ((hd + c) % 17) (some dk))))) := ⟨_, rfl⟩
  have ea1 : astR h 2 (some ea) (I32 ((hd + c) % 17)) (some dk) = some h1 := by rw [eh1]; exact v_astR q2 hixT q4 (v_okst D hd2 rfl) (Or.inl rfl)
  have a1 : hF h1 ea = some (.inl (2, 17, .inr (.inr (va_up q ((hd + c) % 17) (some dk))))) := by rw [eh1, hF_set_eq]
  have a2 : hF h1 hi = some (.inr (9, [.ref ea, .int (I32 hd), .int (I32 ((hd + c) % 17))])) := by rw [eh1, hF_set_ne _ _ nhe]; exact q1
  have a3 : hF h1 x = some (.inr (0, [.ref dk, kv, .ref hi, .ref tx])) := by rw [eh1, hF_set_ne _ _ nxe]; exact C
  have g1 : Gr (fun a => a ≠ x ∧ a ≠ hi ∧ a ≠ ea) 0 0 h h1 := by rw [eh1]; exact Gr.set o q2 (fun z => z.2.2 rfl)
  obtain ⟨h2, eh2⟩ : ∃ h2, h2 = hset h1 hi (.inr (9, [.ref ea, .int (I32 hd), .int (I32 ((hd + (c + 1)) % 17))])) := ⟨_, rfl⟩
  have ep : putV h1 9 2 (some hi) (.int (I32 ((hd + (c + 1)) % 17))) = some h2 := by rw [eh2]; exact v_putV a2 (by show 2 < 3; decide) (by rw [g1.b]; exact q3)
  have b1 : hF h2 ea = some (.inl (2, 17, .inr (.inr (va_up q ((hd + c) % 17) (some dk))))) := by rw [eh2, hF_set_ne _ _ (Ne.symm nhe)]; exact a1
  have b2' : hF h2 hi = some (.inr (9, [.ref ea, .int (I32 hd), .int (I32 ((hd + (c + 1)) % 17))])) := by rw [eh2, hF_set_eq]
  have b3 : hF h2 x = some (.inr (0, [.ref dk, kv, .ref hi, .ref tx])) := by rw [eh2, hF_set_ne _ _ nxh]; exact a3
  have g2 : Gr (fun a => a ≠ x ∧ a ≠ hi ∧ a ≠ ea) 0 0 h h2 := by
    rw [eh2]
    exact g1.tr (Gr.set g1.ok a2 (fun z => z.2.1 rfl))
  have eadd : F_J3_addLast hi (some dk) h = some h2 := by
    unfold F_J3_addLast
    rw [if_neg (fun z => by cases z), v_getR q1 rfl, bind_some9, v_getI q1 rfl, bind_some9, ea1, bind_some9, v_getI a2 rfl, bind_some9, v_getI a2 rfl, bind_some9, v_alen a1 (by decide), bind_some9, al_ofNat, inc17 _ hT, eT, ep, bind_some9, if_neg (fun z => ne17 hd q5 c (by omega) z)]
  have esz : F_J3_size hi h2 = some (I32 (c + 1)) := by
    unfold F_J3_size
    rw [v_getI b2' rfl, bind_some9, v_getI b2' rfl, bind_some9, v_getR b2' rfl, bind_some9, v_alen b1 (by decide), bind_some9, al_ofNat, sub17 hd q5 (c + 1) (by omega)]
  unfold F_X1_changed
  rw [v_getR C rfl, bind_some9, v_getR C rfl, bind_some9, v_isO q1, bind_some9, eadd, bind_some9, v_getR b3 rfl, bind_some9, v_isO b2', bind_some9, esz, bind_some9]
  have upT : ∀ i, va_up q ((hd + c) % 17) (some dk) i = if i = (hd + c) % 17 then some dk else q i := fun i => rfl
  by_cases hc : c < 4
  · have hle : I32 (c + 1) ≤ (4 : Int32) := (i32le (n := c + 1) (j := 4) (by omega) (by decide)).mpr (by omega)
    have hp : putV h2 0 0 (some x) (va_rf (some t)) = some (hset h2 x (.inr (0, [.ref t, kv, .ref hi, .ref tx]))) := v_putV b3 (by show 0 < 4; decide) (by rw [g2.b]; exact hb)
    rw [if_pos hle, hp, bind_some9]
    refine ⟨_, hd, c + 1, va_up q ((hd + c) % 17) (some dk), rfl, g2.tr (Gr.set g2.ok b3 (fun z => z.1 rfl)), hF_set_eq _ _ _, by rw [hF_set_ne _ _ (Ne.symm nxh)]; exact b2', by rw [hF_set_ne _ _ (Ne.symm nxe)]; exact b1, q5, fun _ => ⟨rfl, fun i hi => ?_, ?_⟩, fun z => absurd z (by omega)⟩
    · rw [upT, if_neg (by omega)]
    · rw [upT, if_pos rfl]
  · have hc4 : c = 4 := by omega
    subst hc4
    rw [if_neg (show ¬ I32 (4 + 1) ≤ (4 : Int32) by decide), bind_some9, v_isO b2', bind_some9]
    have hixH := ix_of hd 17 q5 (by decide)
    obtain ⟨d0, ed0⟩ := qn 0 (by decide)
    rw [Nat.add_zero, mod17 q5] at ed0
    have edh : va_up q ((hd + 4) % 17) (some dk) hd = some d0 := by rw [upT, if_neg (by omega)]; exact ed0
    obtain ⟨h3, eh3⟩ : ∃ h3, h3 = hset h2 ea (.inl (2, 17, .inr (.inr (va_up (va_up q ((hd + 4) % 17) (some dk)) hd none)))) := ⟨_, rfl⟩
    have ea3 : astR h2 2 (some ea) (I32 hd) none = some h3 := by rw [eh3]; exact v_astR b1 hixH (by rw [g2.b]; exact q4) rfl (Or.inl rfl)
    have d1 : hF h3 ea = some (.inl (2, 17, .inr (.inr (va_up (va_up q ((hd + 4) % 17) (some dk)) hd none)))) := by rw [eh3, hF_set_eq]
    have d2 : hF h3 hi = some (.inr (9, [.ref ea, .int (I32 hd), .int (I32 ((hd + (4 + 1)) % 17))])) := by rw [eh3, hF_set_ne _ _ nhe]; exact b2'
    have d3 : hF h3 x = some (.inr (0, [.ref dk, kv, .ref hi, .ref tx])) := by rw [eh3, hF_set_ne _ _ nxe]; exact b3
    have g3 : Gr (fun a => a ≠ x ∧ a ≠ hi ∧ a ≠ ea) 0 0 h h3 := by
      rw [eh3]
      exact g2.tr (Gr.set g2.ok b1 (fun z => z.2.2 rfl))
    obtain ⟨h4, eh4⟩ : ∃ h4, h4 = hset h3 hi (.inr (9, [.ref ea, .int (I32 ((hd + 1) % 17)), .int (I32 ((hd + (4 + 1)) % 17))])) := ⟨_, rfl⟩
    have ep4 : putV h3 9 1 (some hi) (.int (I32 ((hd + 1) % 17))) = some h4 := by rw [eh4]; exact v_putV d2 (by show 1 < 3; decide) (by rw [g3.b]; exact q3)
    have c1 : hF h4 ea = some (.inl (2, 17, .inr (.inr (va_up (va_up q ((hd + 4) % 17) (some dk)) hd none)))) := by rw [eh4, hF_set_ne _ _ (Ne.symm nhe)]; exact d1
    have c2 : hF h4 hi = some (.inr (9, [.ref ea, .int (I32 ((hd + 1) % 17)), .int (I32 ((hd + (4 + 1)) % 17))])) := by rw [eh4, hF_set_eq]
    have c3' : hF h4 x = some (.inr (0, [.ref dk, kv, .ref hi, .ref tx])) := by rw [eh4, hF_set_ne _ _ nxh]; exact d3
    have g4 : Gr (fun a => a ≠ x ∧ a ≠ hi ∧ a ≠ ea) 0 0 h h4 := by
      rw [eh4]
      exact g3.tr (Gr.set g3.ok d2 (fun z => z.2.1 rfl))
    have epoll : F_J3_removeFirst hi h2 = some (some d0, h4) := by
      unfold F_J3_removeFirst F_J3_pollFirst F_J3_elementAt
      rw [v_isO b2', bind_some9, v_getR b2' rfl, bind_some9, v_getI b2' rfl, bind_some9, v_aldR b1 hixH, bind_some9, bind_some9, edh, if_neg (fun z => by cases z), ea3, bind_some9, v_alen d1 (by decide), bind_some9, al_ofNat, inc17 hd q5, ep4, bind_some9, b2_s, if_neg (fun z => by cases z)]
    have hp : putV h4 0 0 (some x) (va_rf (some t)) = some (hset h4 x (.inr (0, [.ref t, kv, .ref hi, .ref tx]))) := v_putV c3' (by show 0 < 4; decide) (by rw [g4.b]; exact hb)
    rw [epoll, b2_s, hp, bind_some9]
    refine ⟨_, (hd + 1) % 17, 4, va_up (va_up q ((hd + 4) % 17) (some dk)) hd none, rfl, g4.tr (Gr.set g4.ok c3' (fun z => z.1 rfl)), hF_set_eq _ _ _, ?_, by rw [hF_set_ne _ _ (Ne.symm nxe)]; exact c1, Nat.mod_lt _ (by decide), fun z => absurd z (by omega), fun _ => ⟨rfl, fun i hi => ?_, ?_⟩⟩
    · rw [hF_set_ne _ _ (Ne.symm nxh), c2, show ((hd + 1) % 17 + 4) % 17 = (hd + (4 + 1)) % 17 by omega]
    · show (if ((hd + 1) % 17 + i) % 17 = hd then none else va_up q ((hd + 4) % 17) (some dk) (((hd + 1) % 17 + i) % 17)) = _
      rw [if_neg (by omega), upT, if_neg (by omega), show ((hd + 1) % 17 + i) % 17 = (hd + (i + 1)) % 17 by omega]
    · show (if ((hd + 1) % 17 + 3) % 17 = hd then none else va_up q ((hd + 4) % 17) (some dk) (((hd + 1) % 17 + 3) % 17)) = _
      rw [if_neg (by omega), upT, if_pos (by omega)]
/-- the component behind a change: a new desk, that of before in the history -/
theorem CX.changed {h : HH} {x t : Nat} {S S' : MS} {r : Int32} (o : OKH h) (R : CX h x S) (D : DR 0 h t (S'.1 0)) (G : GoodS (S'.1 0)) (e2 : S'.1 2 = S.1 2) (e6 : S'.1 6 = S.1 6) (e3 : S'.2.1 3 = S.2.1 3) (e7 : S'.2.1 7 = S.2.1 7) (rc : Rec S (S.1 0) S') : ∃ h', F_X1_changed x (some t) r h = some (r, h') ∧ Gr (fun _ => False) 0 0 h h' ∧ KeepX XC h h' ∧ CX h' x S' := by
  obtain ⟨dk, kv, hi, tx, C, hb, D0, G0, K, ⟨ea, hd, c, q, q1, q2, q3, q4, q5, q6, q7, q8⟩, T⟩ := R
  obtain ⟨st, al, sh, z, Cd, _⟩ := id D0
  obtain ⟨h', hd', c', q', e, g, p1, p2, p3, p4, p5, p6⟩ := changed_a (t := t) (r := r) o C hb q1 q2 q3 q4 q5 q6 (fun i hi => (q8 i hi).elim fun d w => ⟨d, w.1⟩) Cd.1 Cd.2
  have kx : KeepX XC h h' := by
    refine ⟨g.1, fun a ec ha hx => ?_, fun a cc fs ha => ?_⟩
    · rw [g.2.1 a ⟨fun z => ?_, fun z => ?_, fun z => ?_⟩]
      · exact ha
      · subst z
        rw [C] at ha
        cases ha
        exact hx (Or.inl rfl)
      · subst z
        rw [q1] at ha
        cases ha
        exact hx (Or.inr (Or.inl rfl))
      · subst z
        rw [q2] at ha
        cases ha
        exact hx (Or.inr (Or.inr (Or.inl rfl)))
    · by_cases z1 : a = x
      · subst z1
        rw [C] at ha
        cases ha
        exact ⟨_, p1⟩
      · by_cases z2 : a = hi
        · subst z2
          rw [q1] at ha
          cases ha
          exact ⟨_, p2⟩
        · refine ⟨fs, ?_⟩
          rw [g.2.1 a ⟨z1, z2, fun z => ?_⟩]
          · exact ha
          · subst z
            rw [q2] at ha
            cases ha
  obtain ⟨cc, k1, k2, k3, k4⟩ := rc
  have ec := i32inj (by omega) (by omega) (q7.symm.trans k2)
  subst ec
  have DK : ∀ {d : Nat} {s s' : Nat → Int32}, DR 0 h d s → (∀ i, i < 194 → s' i = s i) → DR 0 h' d s' := fun R a => R.keepX kx XC_noD a
  obtain ⟨va, cap, len, ml, b, t1, t2, t3, t4, t5, t6, t7, t8, t9⟩ := T
  have nx : ∀ {a : Nat} {ec : AC}, hF h a = some ec → kd ec ≠ (0, 0) → kd ec ≠ (0, 9) → kd ec ≠ (3, 17) → hF h' a = some ec := fun {a ec} ha n1 n2 n3 => by
    rw [g.2.1 a ⟨fun z => ?_, fun z => ?_, fun z => ?_⟩]
    · exact ha
    · subst z
      rw [C] at ha
      cases ha
      exact n1 rfl
    · subst z
      rw [q1] at ha
      cases ha
      exact n2 rfl
    · subst z
      rw [q2] at ha
      cases ha
      exact n3 rfl
  refine ⟨h', e, g.sub (fun a z => z.elim), kx, t, kv, hi, tx, p1, by rw [g.b]; exact hb, DK D (fun _ _ => rfl), G, K.keepX kx XC_noD e2 e3, ⟨ea, hd', c', q', p2, p3, by rw [g.b]; exact q3, by rw [g.b]; exact q4, p4, ?_, ?_, fun i hi => ?_⟩, ⟨va, cap, len, ml, b, nx t1 (by intro z; cases z) (by intro z; cases z) (by intro z; cases z), nx t2 (by intro z; cases z) (by intro z; cases z) (fun z => by
    have z : (2, cap) = ((3, 17) : Nat × Nat) := z
    cases z), by rw [g.b]; exact t3, by rw [g.b]; exact t4, t5, t6, t7, e7.trans t8, by rw [e6]; exact t9⟩⟩
  · by_cases h4 : c < 4
    · rw [(p5 h4).1]; omega
    · rw [(p6 (by omega)).1]; omega
  · by_cases h4 : c < 4
    · rw [(p5 h4).1]; exact (k3 h4).1
    · rw [(p6 (by omega)).1]; exact (k4 (by omega)).1
  · by_cases h4 : c < 4
    · obtain ⟨w1, w2, w3⟩ := p5 h4
      obtain ⟨v1, v2, v3⟩ := k3 h4
      by_cases ei : i = c
      · subst ei
        exact ⟨dk, w3, DK D0 v3, G0.congr v3⟩
      · obtain ⟨d, u1, u2, u3⟩ := q8 i (by omega)
        exact ⟨d, (w2 i (by omega)).trans u1, DK u2 (v2 i (by omega)), u3.congr (v2 i (by omega))⟩
    · have h44 : c = 4 := by omega
      obtain ⟨w1, w2, w3⟩ := p6 h44
      obtain ⟨v1, v2, v3⟩ := k4 h44
      by_cases ei : i = 3
      · subst ei
        exact ⟨dk, w3, DK D0 v3, G0.congr v3⟩
      · obtain ⟨d, u1, u2, u3⟩ := q8 (i + 1) (by omega)
        exact ⟨d, (w2 i (by omega)).trans u1, DK u2 (v2 i (by omega)), u3.congr (v2 i (by omega))⟩
