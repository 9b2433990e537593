/-! the desk's acts on its zone -/
def DC (h : HH) (t st al sh z : Nat) (w : Int32) : Prop := hF h t = some (.inr (2, [.ref st, .ref al, .ref sh, .ref z, .int w])) ∧ hB h ≤ t
def takeOK (E : OD) : Prop := (nn (otl E 4) → LateF (otl E 4)) ∧ Great E
noncomputable def sTake (D E : OD) : Option (Int32 × OD) := if bq (takeOK E) then some (dcnt D E 16, E) else none
theorem sTake_t {D E : OD} (h : takeOK E) : sTake D E = some (dcnt D E 16, E) := by
  unfold sTake
  rw [if_pos (bq_t.mpr h)]
theorem sTake_f {D E : OD} (h : ¬ takeOK E) : sTake D E = none := by
  unfold sTake
  rw [bq_f.mpr h]
  rfl
/-- how an act on the zone comes out: its answer and the new zone, or refused -/
def DOut (h' : HH) (t st al sh : Nat) (w : Int32) (res : (Nat × String) ⊕ Int32) : Option (Int32 × OD) → Prop
  | some (v, E) => res = .inr v ∧ ∃ z b d, DC h' t st al sh z w ∧ ZA h' z b d ∧ rep 9999 d E
  | none => Ref res h' 2
/-- cells of before, but the desk's own -/
def Pt (h : HH) (t : Nat) : Nat → Prop := fun a => a < hSz h ∧ a ≠ t
def EC (E : OD) : Prop := dg0 E ∧ (∀ j, j < 3 → ∃ t, E (12 + j) = some t ∧ t ≤ 0) ∧ bd (-70000) 3300 E
theorem EC.z3 {E : OD} (h : EC E) : ∀ j, j < 3 → ∃ t, E (12 + j) = some t := fun j hj => (h.2.1 j hj).elim fun t q => ⟨t, q.1⟩
theorem EC.rep {N : Int32} (hN : 9999 ≤ N.toInt) {d : ZS} {E : OD} (h : EC E) (hr : rep N d E) : rep N (gtl N d 4) (otl E 4) := rep_gtl hN hr h.1 h.z3 h.2.2
theorem EC.bnd {E : OD} (h : EC E) : bd (-100000000) 9900 (otl E 4) := fun i hi t ht => by
  have h1 := lo_all (m := -70000) (by decide) (fun i hi t ht => (h.2.2 i hi t ht).1) 4 (Nat.le_refl _) i hi t ht
  have h2 := otl_up (U := 3300) (by decide) h.1 h.z3 (fun i hi t ht => (h.2.2 i hi t ht).2) i hi t ht
  have h3 : (6 : Int) ^ 4 * -70000 = -90720000 := by decide
  omega
theorem EC.bnd2 {E : OD} (h : EC E) (hn : nn (otl E 4)) : bd (-1120000) 9900 (otl E 4) := fun i hi t ht => by
  have h1 := lo16 (m := -70000) (by decide) hn (fun i hi t ht => (h.2.2 i hi t ht).1) i hi t ht
  have h2 := otl_up (U := 3300) (by decide) h.1 h.z3 (fun i hi t ht => (h.2.2 i hi t ht).2) i hi t ht
  omega
theorem GZ.toEC {D : OD} (h : GZ D) : EC D := ⟨h.1, h.2.1, fun i hi t ht => by have := h.2.2.1 i hi t ht; omega⟩
theorem takesT {h : HH} {t st al sh z0 b0 z b : Nat} {w y : Int32} {d0 d : ZS} {D E : OD} {L : Prop} (o : OKH h) (C : DC h t st al sh z0 w) (Z0 : ZA h z0 b0 d0) (Z : ZA h z b d) (r0 : rep 9999 d0 D) (r : rep 9999 d E) (fy : fl y L) (m : Rm 1 7 h) : ∃ res h', F_X2_takes_T24 t (some z) y h = some (res, h') ∧ Gr (fun a => a < hSz h ∧ a ≠ t) 1 7 h h' ∧ (L ∧ Great E → res = .inr (dcnt D E 16) ∧ DC h' t st al sh z w ∧ ZA h' z b d) ∧ (¬ (L ∧ Great E) → Ref res h' 2) := by
  unfold F_X2_takes_T24
  rcases need_cases (k := 2) fy o m with ⟨n, e⟩ | ⟨p, e⟩
  · rw [e, thr_l]
    exact ⟨_, _, rfl, Gr.push o _ 7 (fun q => Nat.lt_irrefl _ q.1), fun q => absurd q.1 n, fun _ => ⟨_, rfl, hF_push_eq _ _ _⟩⟩
  · rw [e, thr_r, v_isO Z.1, bind_some9]
    obtain ⟨v, e2, hf⟩ := z_isTooGreat Z r
    rw [e2, bind_some9]
    have f2 : fl (if v = 0 then (1 : Int32) else (0 : Int32)) (Great E) := fl_congr fl_pos ((fl_0 hf).trans Classical.not_not)
    rcases need_cases (k := 2) f2 o m with ⟨n, e⟩ | ⟨p2, e⟩
    · rw [e, thr_l]
      exact ⟨_, _, rfl, Gr.push o _ 7 (fun q => Nat.lt_irrefl _ q.1), fun q => absurd q.2 n, fun _ => ⟨_, rfl, hF_push_eq _ _ _⟩⟩
    · rw [e, thr_r, v_getR C.1 rfl, bind_some9, v_isO Z0.1, bind_some9, z_unlike Z0 Z r0 r, bind_some9]
      have hp : putV h 2 3 (some t) (va_rf (some z)) = some (hset h t (.inr (2, [.ref st, .ref al, .ref sh, .ref z, .int w]))) := v_putV C.1 (by show 3 < 5; decide) C.2
      rw [hp, bind_some9]
      have g : Gr (fun a => a < hSz h ∧ a ≠ t) 0 0 h (hset h t (.inr (2, [.ref st, .ref al, .ref sh, .ref z, .int w]))) := Gr.set o C.1 (fun q => q.2 rfl)
      refine ⟨_, _, rfl, g.mono (by decide) (by decide), fun _ => ⟨rfl, ⟨hF_set_eq _ _ _, C.2⟩, Z.gr g ⟨o.lt Z.1, fun e => ?_⟩ ⟨o.lt Z.2.1, fun e => ?_⟩⟩, fun n => absurd ⟨p, p2⟩ n⟩
      · have h1 := Z.1
        rw [e, C.1] at h1
        cases h1
      · have h1 := Z.2.1
        rw [e, C.1] at h1
        cases h1
theorem takes_a {h : HH} {t st al sh z0 b0 z b : Nat} {w : Int32} {d0 d : ZS} {D E : OD} (o : OKH h) (C : DC h t st al sh z0 w) (Z0 : ZA h z0 b0 d0) (Z : ZA h z b d) (r0 : rep 9999 d0 D) (r : rep 9999 d E) (rg : rep 9999 (gtl 9999 d 4) (otl E 4)) (hb : bd (-100000000) 100000000 (otl E 4)) (m : Rm 3 24 h) : ∃ res h', F_X2_takes t (some z) h = some (res, h') ∧ Gr (Pt h t) 3 24 h h' ∧ DOut h' t st al sh w res (sTake D E) := by
  have Z2 := mkZ_ZA o (gtl 9999 d 4)
  have g := mkZ_gr (P := Pt h t) o (gtl 9999 d 4) (fun a q => q.1)
  have g9 := mkZ_gr (P := fun a => a < hSz h) o (gtl 9999 d 4) (fun a q => q)
  have C' : DC (mkZ h (gtl 9999 d 4)) t st al sh z0 w := ⟨by rw [g9.2.1 t (o.lt C.1)]; exact C.1, C.2⟩
  have Z0' := Z0.gr g9 (o.lt Z0.1) (o.lt Z0.2.1)
  have Z' := Z.gr g9 (o.lt Z.1) (o.lt Z.2.1)
  have m' := m.gr g9 (by decide) (by decide)
  have fin : ∀ (y : Int32) (L : Prop), fl y L → (L ↔ (nn (otl E 4) → LateF (otl E 4))) → ∃ res h', F_X2_takes_T24 t (some z) y (mkZ h (gtl 9999 d 4)) = some (res, h') ∧ Gr (Pt h t) 3 24 h h' ∧ DOut h' t st al sh w res (sTake D E) := fun y L fy hL => by
    obtain ⟨res, h', e, g2, p1, p2⟩ := takesT g9.ok C' Z0' Z' r0 r fy m'
    refine ⟨res, h', e, g.tr (g2.sub (fun a q => ⟨Nat.lt_of_lt_of_le q.1 g9.2.2.2.1, q.2⟩)), ?_⟩
    by_cases hk : takeOK E
    · rw [sTake_t hk]
      obtain ⟨a, b', c⟩ := p1 ⟨hL.mpr hk.1, hk.2⟩
      exact ⟨a, z, b, d, b', c, r⟩
    · rw [sTake_f hk]
      exact p2 (fun q => hk ⟨hL.mp q.1, q.2⟩)
  unfold F_X2_takes
  rw [v_isO Z.1, bind_some9, z_tight o Z (m.mono (by decide) (by decide)), b2_s, v_isO Z2.1, bind_some9]
  obtain ⟨v, e, hf⟩ := z_hasNone Z2 rg
  rw [e, bind_some9]
  by_cases hn : nn (otl E 4)
  · rw [if_pos ((fl_0 hf).mpr (fun q => q hn)), bind_some9]
    obtain ⟨v2, e2, hf2⟩ := z_isTooFar Z2 rg hb
    rw [e2, bind_some9]
    by_cases hl : LateF (otl E 4)
    · rw [if_pos ((fl_0 hf2).mpr (fun q => q hl))]
      exact fin 1 True (Or.inl ⟨rfl, True.intro⟩) ⟨fun _ _ => hl, fun _ => True.intro⟩
    · rw [if_neg (fun q => (fl_0 hf2).mp q hl)]
      exact fin 0 False (Or.inr ⟨rfl, fun q => q⟩) ⟨fun q => q.elim, fun q => hl (q hn)⟩
  · rw [if_neg (fun q => (fl_0 hf).mp q hn)]
    exact fin 1 True (Or.inl ⟨rfl, True.intro⟩) ⟨fun _ q => absurd q hn, fun _ => True.intro⟩
