/-! texts: the form of an order -/
def nW (w : Nat) : Nat := if w = 0 then 1 else 2 * w
def tcW (k : Nat) : Nat := if k = 0 then 0 else 2 * k - 1
def TK (len : Nat) (c : Nat → Int32) (p w i : Nat) : Prop := if i + 1 = nW w then chA len c (p + 1 + i) = 59 else if i % 2 = 0 then isD (chA len c (p + 1 + i)) else chA len c (p + 1 + i) = 44
def OutF (len : Nat) (c : Nat → Int32) (p w pos : Nat) (v : Int32) : Prop := (v = 1 ∧ pos = p + 1 + nW w ∧ ∀ i, i < nW w → TK len c p w i) ∨ (v = 0 ∧ ∃ i, i < nW w ∧ pos = p + 1 + i ∧ ¬ TK len c p w i ∧ ∀ j, j < i → TK len c p w j)
theorem OutF_uniq {len : Nat} {c : Nat → Int32} {p w pos pos' : Nat} {v v' : Int32} (a : OutF len c p w pos v) (b : OutF len c p w pos' v') : pos = pos' ∧ v = v' := by
  rcases a with ⟨a1, a2, a3⟩ | ⟨a1, i, a2, a3, a4, a5⟩
  · rcases b with ⟨b1, b2, b3⟩ | ⟨b1, j, b2, b3, b4, b5⟩
    · exact ⟨a2.trans b2.symm, a1.trans b1.symm⟩
    · exact absurd (a3 j b2) b4
  · rcases b with ⟨b1, b2, b3⟩ | ⟨b1, j, b2, b3, b4, b5⟩
    · exact absurd (b3 i a2) a4
    · have : i = j := by
        by_cases h : i < j
        · exact absurd (b5 i h) a4
        · by_cases h2 : j < i
          · exact absurd (a5 j h2) b4
          · omega
      subst this
      exact ⟨a3.trans b3.symm, a1.trans b1.symm⟩
theorem nW_pos {w k : Nat} (h : k < w) : nW w = 2 * w := if_neg (by omega)
theorem tcW_s (k : Nat) : tcW (k + 1) = 2 * k + 1 := by
  unfold tcW
  rw [if_neg (by omega)]
  omega
theorem tcW_w (w : Nat) : tcW w + 1 = nW w := by
  unfold tcW nW
  by_cases h : w = 0
  · rw [if_pos h, if_pos h]
  · rw [if_neg h, if_neg h]
    omega
section TKS
variable {len p w k : Nat} {c : Nat → Int32}
theorem TK_d (h : k < w) : TK len c p w (2 * k) ↔ isD (chA len c (p + 1 + 2 * k)) := by
  unfold TK
  rw [nW_pos h, if_neg (by omega), if_pos (by omega)]
theorem TK_c (h : k < w) (h0 : 0 < k) : TK len c p w (2 * k - 1) ↔ chA len c (p + 1 + (2 * k - 1)) = 44 := by
  unfold TK
  rw [nW_pos h, if_neg (by omega), if_neg (by omega)]
theorem TK_e : TK len c p w (tcW w) ↔ chA len c (p + 1 + tcW w) = 59 := by
  unfold TK
  rw [if_pos (tcW_w w)]
end TKS
section FRM
variable {h : HH} {S : MS} {B r tr na len p w : Nat} {bg rs cs mn : Int32} {nm : Nat → Int32}
theorem f_reads2 {p : Nat} (o : OKH h) (T : TC h B S len) (R : Rd h r tr na B (I32 p) bg rs cs mn nm) (hp : p ≤ 100) {w : Nat} (hw : w < 3) : ∃ v h' nm2, F_X8_reads r (I32 w) h = some (v, h') ∧ GN r na h h' ∧ ((v = 1 ∧ isD (chA len (S.1 6) p) ∧ Rd h' r tr na B (I32 (p + 1)) bg rs cs mn nm2 ∧ nm2 = upd nm w (chA len (S.1 6) p - (48 : Int32))) ∨ (v = 0 ∧ ¬ isD (chA len (S.1 6) p) ∧ Rd h' r tr na B (I32 p) bg rs cs mn nm2)) := by
  obtain ⟨v, h', e, g, c⟩ := f_reads o T R hp hw
  rcases c with ⟨c1, c2, c3⟩ | ⟨c1, c2, c3⟩
  · exact ⟨v, h', _, e, g, Or.inl ⟨c1, c2, c3, rfl⟩⟩
  · exact ⟨v, h', _, e, g, Or.inr ⟨c1, c2, c3⟩⟩
theorem f_form (o : OKH h) (T : TC h B S len) (hp : p < 60) (hw : w ≤ 3) (R : Rd h r tr na B (I32 (p + 1)) bg rs cs mn nm) : ∃ v h' pos nm', F_X8_isOfForm r (I32 w) h = some (v, h') ∧ GN r na h h' ∧ OutF len (S.1 6) p w pos v ∧ pos ≤ p + 20 ∧ Rd h' r tr na B (I32 pos) bg rs cs mn nm' ∧ (v = 1 → ∀ k, k < w → nm' k = chA len (S.1 6) (p + 1 + 2 * k) - (48 : Int32)) := by
  obtain ⟨⟨v, Y⟩, e, q⟩ := lp_mea (B := fun y => F_X8_isOfForm_B12 r (I32 w) y.1 y.2.1 y.2.2) (Q := fun y => ∃ nm', GN r na h y.2 ∧ ((y.1 = 1 ∧ Rd y.2 r tr na B (I32 (p + 1 + tcW w)) bg rs cs mn nm' ∧ (∀ j, j < tcW w → TK len (S.1 6) p w j) ∧ ∀ j, j < w → nm' j = chA len (S.1 6) (p + 1 + 2 * j) - (48 : Int32)) ∨ (y.1 = 0 ∧ ∃ i, i < nW w ∧ Rd y.2 r tr na B (I32 (p + 1 + i)) bg rs cs mn nm' ∧ ¬ TK len (S.1 6) p w i ∧ ∀ j, j < i → TK len (S.1 6) p w j))) (fun y => ∃ k nm', k ≤ w ∧ y.2.1 = I32 k ∧ GN r na h y.2.2 ∧ ((y.1 = 1 ∧ Rd y.2.2 r tr na B (I32 (p + 1 + tcW k)) bg rs cs mn nm' ∧ (∀ j, j < tcW k → TK len (S.1 6) p w j) ∧ ∀ j, j < k → nm' j = chA len (S.1 6) (p + 1 + 2 * j) - (48 : Int32)) ∨ (y.1 = 0 ∧ ∃ i, i < nW w ∧ Rd y.2.2 r tr na B (I32 (p + 1 + i)) bg rs cs mn nm' ∧ ¬ TK len (S.1 6) p w i ∧ ∀ j, j < i → TK len (S.1 6) p w j))) (fun y => 10 - y.2.1.toNatClampNeg) (fun y hy => by
    obtain ⟨v, x, Y⟩ := y
    obtain ⟨k, nm', hk, e1, g, hc⟩ := hy
    have e1 : x = I32 k := e1
    subst e1
    have g : GN r na h Y := g
    have TY : TC Y B S len := T.gn R g
    have meas : ∀ k, k < w → 10 - (I32 (k + 1)).toNatClampNeg < 10 - (I32 k).toNatClampNeg := fun k hk => by
      rw [(ix_of (k + 1) 200 (by omega) (by decide)).2.1, (ix_of k 200 (by omega) (by decide)).2.1]
      omega
    show (∃ z, F_X8_isOfForm_B12 r (I32 w) v (I32 k) Y = some (.inl z) ∧ _) ∨ ∃ z, F_X8_isOfForm_B12 r (I32 w) v (I32 k) Y = some (.inr z) ∧ _
    rcases hc with ⟨v1, RY, tk, dg⟩ | ⟨v0, i, i1, RY, i3, i4⟩
    · have v1 : v = 1 := v1
      have RY : Rd Y r tr na B (I32 (p + 1 + tcW k)) bg rs cs mn nm' := RY
      subst v1
      by_cases hkw : k < w
      · refine Or.inl ?_
        by_cases k0 : k = 0
        · subst k0
          obtain ⟨x, Y2, nm2, er, g2, hr⟩ := f_reads2 g.ok TY RY (by show p + 1 + 0 ≤ 100; omega) (w := 0) (by decide)
          have er : F_X8_reads r (0 : Int32) Y = some (x, Y2) := er
          have ex : (if x = 0 then (0 : Int32) else (1 : Int32)) = x := by
            rcases hr with ⟨q, _⟩ | ⟨q, _⟩ <;> rw [q] <;> rfl
          refine ⟨(x, I32 1, Y2), ?_, ⟨1, nm2, hkw, rfl, g.trans g2, ?_⟩, meas 0 hkw⟩
          · unfold F_X8_isOfForm_B12
            rw [if_neg (fun c => by rw [i32le (by omega) (by omega)] at c; omega), if_neg (by decide), if_pos (show I32 0 = (0 : Int32) from rfl), v_isO RY.1, bind_some9, show I32 0 = (0 : Int32) from rfl, er, b2_s, ex]
            rfl
          · rcases hr with ⟨q1, q2, q3, rfl⟩ | ⟨q1, q2, q3⟩
            · refine Or.inl ⟨q1, q3, fun j hj => ?_, fun j hj => ?_⟩
              · have : j = 2 * 0 := by
                  have hj : j < 1 := hj
                  omega
                subst this
                exact (TK_d hkw).mpr q2
              · have : j = 0 := by omega
                subst this
                rfl
            · refine Or.inr ⟨q1, 0, by rw [nW_pos hkw]; omega, q3, fun w => q2 ((TK_d (k := 0) hkw).mp w), fun j hj => absurd hj (Nat.not_lt_zero j)⟩
        · have tk1 : tcW k = 2 * k - 1 := if_neg k0
          rw [tk1] at RY tk
          obtain ⟨x, Y2, ea, g2, ha⟩ := f_accepts g.ok TY RY (by omega) (sg := 44) (by decide)
          have ne0 : ¬ I32 k = (0 : Int32) := fun w => k0 ((i32_eq0 (by omega)).mp w)
          rcases ha with ⟨q1, q2, q3⟩ | ⟨q1, q2, q3⟩
          · subst q1
            rw [show p + 1 + (2 * k - 1) + 1 = p + 1 + 2 * k by omega] at q3
            obtain ⟨x2, Y3, nm2, er, g3, hr⟩ := f_reads2 g2.ok (T.gn R (g.trans g2)) q3 (by omega) (w := k) (by omega)
            have ex : (if x2 = 0 then (0 : Int32) else (1 : Int32)) = x2 := by
              rcases hr with ⟨q, _⟩ | ⟨q, _⟩ <;> rw [q] <;> rfl
            have tkc : TK len (S.1 6) p w (2 * k - 1) := (TK_c hkw (by omega)).mpr q2
            refine ⟨(x2, I32 (k + 1), Y3), ?_, ⟨k + 1, nm2, hkw, rfl, (g.trans g2).trans g3, ?_⟩, meas k hkw⟩
            · unfold F_X8_isOfForm_B12
              rw [if_neg (fun c => by rw [i32le (by omega) (by omega)] at c; omega), if_neg (by decide), if_neg ne0, v_isO RY.1, bind_some9, ea, b2_s, if_neg (by decide), v_isO q3.1, bind_some9, er, b2_s, ex, i32s k (by omega)]
            · rcases hr with ⟨r1, r2, r3, rfl⟩ | ⟨r1, r2, r3⟩
              · refine Or.inl ⟨r1, ?_, fun j hj => ?_, fun j hj => ?_⟩
                · rw [tcW_s]
                  exact r3
                · rw [tcW_s] at hj
                  by_cases c1 : j = 2 * k
                  · rw [c1]
                    exact (TK_d hkw).mpr r2
                  · by_cases c2 : j = 2 * k - 1
                    · rw [c2]
                      exact tkc
                    · exact tk j (by omega)
                · unfold upd
                  by_cases c1 : j = k
                  · rw [if_pos c1, c1]
                  · rw [if_neg c1]
                    exact dg j (by omega)
              · refine Or.inr ⟨r1, 2 * k, by rw [nW_pos hkw]; omega, r3, fun w => r2 ((TK_d hkw).mp w), fun j hj => ?_⟩
                by_cases c2 : j = 2 * k - 1
                · rw [c2]
                  exact tkc
                · exact tk j (by omega)
          · subst q1
            refine ⟨(0, I32 (k + 1), Y2), ?_, ⟨k + 1, nm', hkw, rfl, g.trans g2, Or.inr ⟨rfl, 2 * k - 1, by rw [nW_pos hkw]; omega, q3, fun w => q2 ((TK_c hkw (by omega)).mp w), tk⟩⟩, meas k hkw⟩
            unfold F_X8_isOfForm_B12
            rw [if_neg (fun c => by rw [i32le (by omega) (by omega)] at c; omega), if_neg (by decide), if_neg ne0, v_isO RY.1, bind_some9, ea, b2_s, if_pos rfl, i32s k (by omega)]
      · have : k = w := by omega
        subst this
        refine Or.inr ⟨(1, Y), ?_, nm', g, Or.inl ⟨rfl, RY, tk, dg⟩⟩
        unfold F_X8_isOfForm_B12
        rw [if_pos (Int32.le_refl _)]
    · have v0 : v = 0 := v0
      subst v0
      refine Or.inr ⟨(0, Y), ?_, nm', g, Or.inr ⟨rfl, i, i1, RY, i3, i4⟩⟩
      unfold F_X8_isOfForm_B12
      by_cases c : I32 w ≤ I32 k
      · rw [if_pos c]
      · rw [if_neg c, if_pos rfl]) 100000 ((1 : Int32), (0 : Int32), h) ⟨0, nm, Nat.zero_le _, rfl, GN.rf o, Or.inl ⟨rfl, R, fun j hj => absurd hj (Nat.not_lt_zero j), fun j hj => absurd hj (Nat.not_lt_zero j)⟩⟩ (by show 10 - _ < 100000; omega)
  have n8 : nW w ≤ 6 := by
    unfold nW
    split <;> omega
  have tw := tcW_w w
  obtain ⟨nm', g, hc⟩ := q
  have g : GN r na h Y := g
  have hini : (if I32 w < 0 then (0 : Int32) else (1 : Int32)) = 1 := if_neg (ix_of w 10 (by omega) (by decide)).1
  unfold F_X8_isOfForm
  rw [hini, e, bind_some9]
  show ∃ v' h' pos nm', (if v = 0 then some ((0 : Int32), Y) else Option.bind (isO Y 6 (some r)) fun ob21 => b2 (F_X8_accepts ob21 (59 : Int32) Y) fun v23 h22 => some ((if v23 = 0 then (0 : Int32) else (1 : Int32)), h22)) = some (v', h') ∧ _
  rcases hc with ⟨v1, RY, tk, dg⟩ | ⟨v0, i, i1, RY, i3, i4⟩
  · have v1 : v = 1 := v1
    subst v1
    obtain ⟨x, Y2, ea, g2, ha⟩ := f_accepts g.ok (T.gn R g) RY (by omega) (sg := 59) (by decide)
    rw [if_neg (by decide), v_isO RY.1, bind_some9, ea, b2_s]
    rcases ha with ⟨q1, q2, q3⟩ | ⟨q1, q2, q3⟩
    · subst q1
      refine ⟨1, Y2, p + 1 + nW w, nm', rfl, g.trans g2, Or.inl ⟨rfl, rfl, fun j hj => ?_⟩, by omega, ?_, fun _ => dg⟩
      · by_cases c : j = tcW w
        · rw [c]
          exact TK_e.mpr q2
        · exact tk j (by omega)
      · rw [← tw]
        exact q3
    · subst q1
      exact ⟨0, Y2, p + 1 + tcW w, nm', rfl, g.trans g2, Or.inr ⟨rfl, tcW w, by omega, rfl, fun w => q2 (TK_e.mp w), tk⟩, by omega, q3, fun w => absurd w (by decide)⟩
  · have v0 : v = 0 := v0
    subst v0
    rw [if_pos rfl]
    exact ⟨0, Y, p + 1 + i, nm', rfl, g, Or.inr ⟨rfl, i, i1, rfl, i3, i4⟩, by omega, RY, fun w => absurd w (by decide)⟩
/-- no order: the letter is none -/
theorem f_form_no (o : OKH h) : F_X8_isOfForm r (-1 : Int32) h = some ((0 : Int32), h) := by
  have e : lp (fun y => F_X8_isOfForm_B12 r (-1 : Int32) y.1 y.2.1 y.2.2) 100000 ((0 : Int32), (0 : Int32), h) = some ((0 : Int32), h) := lp_for0 (B := fun y => F_X8_isOfForm_B12 r (-1 : Int32) y.1 y.2.1 y.2.2) (fun _ => ((0 : Int32), (0 : Int32), h)) 0 (fun j hj => absurd hj (Nat.not_lt_zero j)) (by
    show F_X8_isOfForm_B12 r (-1 : Int32) (0 : Int32) (0 : Int32) h = _
    unfold F_X8_isOfForm_B12
    rw [if_pos (by decide)]) 100000 (by decide)
  unfold F_X8_isOfForm
  rw [if_pos (show (-1 : Int32) < 0 by decide), e, bind_some9]
  exact if_pos rfl
end FRM
