/-! the acts that work on the tight zone: their rows -/
def Tt (T : OD) : Prop := clo T ∧ dg0 T ∧ (∀ j, j < 3 → ∃ t, T (12 + j) = some t ∧ t ≤ 0) ∧ LateF T ∧ bd (-30) 2997 T
theorem dg_div {k : Nat} (hk : k < 4) : 5 * k / 4 = k ∧ 5 * k % 4 = k := by omega
theorem zr_div {j : Nat} (hj : j < 3) : (12 + j) / 4 = 3 ∧ (12 + j) % 4 = j := by omega
theorem Tt.d15 {T : OD} (h : Tt T) : T 15 = some 0 := h.2.1 3 (by decide)
theorem Tt.EC {T : OD} (h : Tt T) : EC T := ⟨h.2.1, h.2.2.1, h.2.2.2.2.mono (by decide) (by decide)⟩
theorem EC_reset {T : OD} (h : Tt T) {c : Nat} (hc : c < 3) {v : Int} (hv : 0 ≤ v ∧ v ≤ 9) : EC (oreset T c v) := by
  refine ⟨fun k hk => ?_, fun j hj => ?_, fun i hi t ht => ?_⟩
  · unfold oreset
    rw [(dg_div hk).1, (dg_div hk).2, if_neg (by omega), if_neg (by omega)]
    exact h.2.1 k hk
  · unfold oreset
    rw [(zr_div hj).1, (zr_div hj).2, if_neg (by omega)]
    by_cases e : j = c
    · rw [if_pos ⟨e, by omega⟩, show 4 * 3 + 3 = 15 from rfl, h.d15]
      exact ⟨0 + -v, rfl, by omega⟩
    · rw [if_neg (by omega)]
      exact h.2.2.1 j hj
  · unfold oreset at ht
    have bv : ∀ t, (some v : Option Int) = some t → 0 ≤ t ∧ t ≤ 9 := fun t ht => by cases ht; exact hv
    have bn : ∀ t, (some (-v) : Option Int) = some t → -9 ≤ t ∧ t ≤ 0 := fun t ht => by cases ht; omega
    split at ht
    · have := oadd_bd bv (h.2.2.2.2 _ (by omega)) t ht
      omega
    · split at ht
      · have := oadd_bd (h.2.2.2.2 _ (by omega)) bn t ht
        omega
      · have := h.2.2.2.2 i hi t ht
        omega
theorem EC_delay {T : OD} (h : Tt T) : EC (odelay T) := by
  refine ⟨fun k hk => ?_, fun j hj => ?_, fun i hi t ht => ?_⟩
  · unfold odelay
    rw [(dg_div hk).1, (dg_div hk).2, if_neg (by omega)]
    exact h.2.1 k hk
  · unfold odelay
    rw [(zr_div hj).1, (zr_div hj).2, if_neg (by omega)]
    exact h.2.2.1 j hj
  · unfold odelay at ht
    split at ht
    · cases ht
    · have := h.2.2.2.2 i hi t ht
      omega
theorem EC_back {T : OD} (h : Tt T) : EC (oback T) := by
  refine ⟨fun k hk => ?_, fun j hj => ?_, fun i hi t ht => ?_⟩
  · rw [back_ne (by omega)]
    exact h.2.1 k hk
  · exact ole_some (back_le hj)
  · by_cases q : i < 12 ∨ i = 15
    · rw [back_ne q] at ht
      have := h.2.2.2.2 i hi t ht
      omega
    · have e : i = 12 + (i - 12) := by omega
      rw [e] at ht
      rcases back_some (by omega) ht with rfl | ⟨k, hk, hD⟩
      · omega
      · have := h.2.2.2.2 _ (by omega) t hD
        omega
theorem EC_free {T : OD} (h : Tt T) {c : Nat} (hc : c < 3) : EC (ofree T c) := by
  refine ⟨fun k hk => ?_, fun j hj => ?_, fun i hi t ht => ?_⟩
  · unfold ofree
    rw [(dg_div hk).1, (dg_div hk).2, if_neg (by omega), if_neg (by omega)]
    exact h.2.1 k hk
  · unfold ofree
    rw [(zr_div hj).1, (zr_div hj).2, if_neg (by omega)]
    by_cases e : j = c
    · rw [if_pos ⟨e, by omega⟩, show 4 * 3 + 3 = 15 from rfl, h.d15]
      exact ⟨0, rfl, by omega⟩
    · rw [if_neg (by omega)]
      exact h.2.2.1 j hj
  · unfold ofree at ht
    split at ht
    · cases ht
    · split at ht
      · have := h.2.2.2.2 _ (by omega) t ht
        omega
      · have := h.2.2.2.2 i hi t ht
        omega
theorem EC_copy {T : OD} (h : Tt T) {c f : Nat} (hc : c < 3) (hf : f < 3) : EC (ocopy T c f) := by
  refine ⟨fun k hk => ?_, fun j hj => ?_, fun i hi t ht => ?_⟩
  · unfold ocopy
    rw [(dg_div hk).1, (dg_div hk).2, if_neg (by omega), if_neg (by omega)]
    exact h.2.1 k hk
  · unfold ocopy
    rw [(zr_div hj).1, (zr_div hj).2, if_neg (by omega)]
    by_cases e : j = c
    · rw [if_pos ⟨e, by omega⟩]
      exact h.2.2.1 f hf
    · rw [if_neg (by omega)]
      exact h.2.2.1 j hj
  · unfold ocopy at ht
    split at ht
    · have := h.2.2.2.2 _ (by omega) t ht
      omega
    · split at ht
      · have := h.2.2.2.2 _ (by omega) t ht
        omega
      · have := h.2.2.2.2 i hi t ht
        omega
theorem EC_shift {T : OD} (h : Tt T) {c : Nat} (hc : c < 3) {v : Int} (hv : 1 ≤ v ∧ v ≤ 9) : EC (oshift T c v) := by
  have bv : ∀ t, (some v : Option Int) = some t → 0 ≤ t ∧ t ≤ 9 := fun t ht => by cases ht; omega
  have bn : ∀ t, (some (-v) : Option Int) = some t → -9 ≤ t ∧ t ≤ 0 := fun t ht => by cases ht; omega
  refine ⟨fun k hk => ?_, fun j hj => ?_, fun i hi t ht => ?_⟩
  · unfold oshift
    rw [(dg_div hk).1, (dg_div hk).2, if_neg (by omega), if_neg (by omega)]
    exact h.2.1 k hk
  · unfold oshift
    rw [(zr_div hj).1, (zr_div hj).2, if_neg (by omega)]
    obtain ⟨s, e1, h0⟩ := h.2.2.1 j hj
    by_cases e : j = c
    · rw [if_pos ⟨e, by omega⟩, e1]
      exact ⟨s + -v, rfl, by omega⟩
    · rw [if_neg (by omega)]
      exact ⟨s, e1, h0⟩
  · unfold oshift at ht
    split at ht
    · have := oadd_bd (h.2.2.2.2 _ hi) bv t ht
      omega
    · split at ht
      · have := oadd_bd (h.2.2.2.2 _ hi) bn t ht
        omega
      · have := h.2.2.2.2 i hi t ht
        omega
/-- a moment of the tight zone -/
theorem Tt.sat {T : OD} (h : Tt T) : sat T (mx T) := sat_mx h.1 (zr_of h.2.1 h.2.2.1)
theorem nn_reset {T : OD} (h : Tt T) {c : Nat} (hc : c < 3) (v : Int) : nn (otl (oreset T c v) 4) := sat_nn4 (sat_reset hc h.2.1 h.sat)
theorem nn_delay {T : OD} (h : Tt T) : nn (otl (odelay T) 4) := sat_nn4 (sat_mono (dle_delay T) h.sat)
theorem nn_back {T : OD} (h : Tt T) : nn (otl (oback T) 4) := (sat_back h.2.1 h.2.2.1 h.sat).elim fun _ q => sat_nn4 q
theorem nn_free {T : OD} (h : Tt T) {c : Nat} (hc : c < 3) : nn (otl (ofree T c) 4) := sat_nn4 (sat_free hc h.sat)
theorem nn_clo {E : OD} (hc : clo E) (hd : dg0 E) : nn (otl E 4) := by
  rw [otl_clo hc 4 (Nat.le_refl _)]
  exact dg0_nn hd
theorem GZ.Tt {D : OD} (h : GZ D) (hn : nn (otl D 4)) : Tt (otl D 4) := ⟨(h.tight hn).1, (h.tight hn).2.1, (h.tight hn).2.2.1, (h.tight hn).2.2.2.1, (h.tight hn).2.2.2.2⟩
/-- what is answered: a bound as a number -/
def oval : Option Int → Int32
  | none => 0
  | some t => Int32.ofInt t
theorem rep1_val {N x : Int32} {a : Option Int} {t : Int} (h : rep1 N x a) (e : a = some t) : x = oval a := by
  subst e
  show x = Int32.ofInt t
  rw [← h.1, Int32.ofInt_toInt]
def hadv : Option Int → Int32
  | none => 31
  | some t => Int32.ofInt t
theorem rep1_had {N x : Int32} (hN : 9999 ≤ N.toInt) {a : Option Int} (h : rep1 N x a) : (if x = N then (31 : Int32) else x) = hadv a := by
  cases a with
  | none =>
    have h : x = N := h
    rw [if_pos h]
    rfl
  | some t =>
    rw [if_neg (fun e => by rw [e] at h; have := h.1; have := h.2; omega)]
    show x = Int32.ofInt t
    rw [← h.1, Int32.ofInt_toInt]
noncomputable def sWork (D E : OD) (f : Int32 → Int32) : Option (Int32 × OD) := if bq (nn (otl D 4)) then (sTake D (otl E 4)).map (fun q => (f q.1, q.2)) else none
theorem sWork_f {D E : OD} {f : Int32 → Int32} (h : ¬ nn (otl D 4)) : sWork D E f = none := by
  unfold sWork
  rw [bq_f.mpr h]
  rfl
theorem sWork_t {D E : OD} {f : Int32 → Int32} (h : nn (otl D 4)) : sWork D E f = (sTake D (otl E 4)).map (fun q => (f q.1, q.2)) := by
  unfold sWork
  rw [if_pos (bq_t.mpr h)]
theorem Ref.cast {α β : Type} {q : Nat × String} {h : HH} {k : Int32} (r : Ref (α := α) (.inl q) h k) : Ref (α := β) (.inl q) h k := by
  obtain ⟨a, e, b⟩ := r
  cases e
  exact ⟨a, rfl, b⟩
theorem Ref.inl {α : Type} {res : (Nat × String) ⊕ α} {h : HH} {k : Int32} (r : Ref res h k) : ∃ q, res = .inl q := by
  obtain ⟨a, e, _⟩ := r
  exact ⟨_, e⟩
section DK
variable {h : HH} {t st al sh z0 b0 : Nat} {w : Int32} {d0 : ZS} {D : OD}
theorem readied_a (o : OKH h) (C : DC h t st al sh z0 w) (Z0 : ZA h z0 b0 d0) (r0 : rep 9999 d0 D) (G : GZ D) (m : Rm 3 24 h) : (nn (otl D 4) ∧ F_X2_readied t h = some (.inr (some (hSz h)), mkZ h (gtl 9999 d0 4))) ∨ (¬ nn (otl D 4) ∧ ∃ q h', F_X2_readied t h = some (.inl q, h') ∧ Ref (α := Int32) (.inl q) h' 2 ∧ Gr (Pt h t) 3 24 h h') := by
  have Z2 := mkZ_ZA o (gtl 9999 d0 4)
  have g := mkZ_gr (P := Pt h t) o (gtl 9999 d0 4) (fun a q => q.1)
  obtain ⟨v, e, hf⟩ := z_hasNone Z2 (G.rep n9 r0)
  unfold F_X2_readied
  rw [v_getR C.1 rfl, bind_some9, v_isO Z0.1, bind_some9, z_tight o Z0 (m.mono (by decide) (by decide)), b2_s, v_isO Z2.1, bind_some9, e, bind_some9]
  have f2 : fl (if v = 0 then (1 : Int32) else (0 : Int32)) (nn (otl D 4)) := fl_congr fl_pos ((fl_0 hf).trans Classical.not_not)
  rcases need_cases (k := 2) f2 g.ok (m.gr g (by decide) (by decide)) with ⟨n, e⟩ | ⟨p, e⟩
  · rw [e, thr_l]
    exact Or.inr ⟨n, _, _, rfl, ⟨_, rfl, hF_push_eq _ _ _⟩, g.tr (Gr.push g.ok _ 7 (fun q => by
      have h1 : hSz h + 1 + 1 < hSz h := q.1
      omega))⟩
  · rw [e, thr_r]
    exact Or.inl ⟨p, rfl⟩
theorem DC.gr {P : Nat → Prop} {c s : Nat} {h' : HH} {z : Nat} (C : DC h t st al sh z w) (g : Gr P c s h h') (p : P t) : DC h' t st al sh z w := ⟨by rw [g.2.1 t p]; exact C.1, by rw [g.b]; exact C.2⟩
theorem takesWorked_a {z b : Nat} {d : ZS} {E : OD} (o : OKH h) (C : DC h t st al sh z0 w) (Z0 : ZA h z0 b0 d0) (Z : ZA h z b d) (r0 : rep 9999 d0 D) (r : rep 9999 d E) (ec : EC E) (hn : nn (otl E 4)) (m : Rm 5 41 h) : ∃ res h', F_X2_takesWorked t (some z) h = some (res, h') ∧ Gr (Pt h t) 5 41 h h' ∧ DOut h' t st al sh (w + 1) res (sTake D (otl E 4)) := by
  have rg := ec.rep n9 r
  have hc := clo_otl hn
  have hb := ec.bnd
  have g1 : Gr (Pt h t) 0 0 h (hset h t (.inr (2, [.ref st, .ref al, .ref sh, .ref z0, .int (w + 1)]))) := Gr.set o C.1 (fun q => q.2 rfl)
  have hp : putV h 2 4 (some t) (.int (w + 1)) = some (hset h t (.inr (2, [.ref st, .ref al, .ref sh, .ref z0, .int (w + 1)]))) := v_putV C.1 (by show 4 < 5; decide) C.2
  have C1 : DC (hset h t (.inr (2, [.ref st, .ref al, .ref sh, .ref z0, .int (w + 1)]))) t st al sh z0 (w + 1) := ⟨hF_set_eq _ _ _, C.2⟩
  have ne : ∀ {z b : Nat} {d : ZS}, ZA h z b d → Pt h t z ∧ Pt h t b := fun {z b d} Z => ⟨⟨o.lt Z.1, fun e => by
    have h1 := Z.1
    rw [e, C.1] at h1
    cases h1⟩, ⟨o.lt Z.2.1, fun e => by
    have h1 := Z.2.1
    rw [e, C.1] at h1
    cases h1⟩⟩
  have Z01 := Z0.gr g1 (ne Z0).1 (ne Z0).2
  have Z1 := Z.gr g1 (ne Z).1 (ne Z).2
  unfold F_X2_takesWorked
  rw [v_getI C.1 rfl, bind_some9, hp, bind_some9]
  generalize hh : hset h t (.inr (2, [.ref st, .ref al, .ref sh, .ref z0, .int (w + 1)])) = h1 at *
  have m1 := m.gr g1 (by decide) (by decide)
  have Z2 := mkZ_ZA g1.ok (gtl 9999 d 4)
  have g2 := mkZ_gr (P := fun a => a < hSz h1) g1.ok (gtl 9999 d 4) (fun a q => q)
  rw [v_isO Z1.1, bind_some9, z_tight g1.ok Z1 (m1.mono (by decide) (by decide)), b2_s]
  have C2 := C1.gr g2 (g1.ok.lt C1.1)
  rw [v_isO C2.1, bind_some9]
  obtain ⟨res, h', e, g3, ho⟩ := takes_a g2.ok C2 (Z01.gr g2 (g1.ok.lt Z01.1) (g1.ok.lt Z01.2.1)) Z2 r0 rg (by
    rw [gtl_clo n9 rg hc (hb.mono (by decide) (by decide)) 4 (Nat.le_refl _), otl_clo hc 4 (Nat.le_refl _)]
    exact rg) (by
    rw [otl_clo hc 4 (Nat.le_refl _)]
    exact hb.mono (by decide) (by decide)) (m1.gr g2 (by decide) (by decide))
  refine ⟨res, h', ?_, (g1.tr ((g2.sub (fun a q => Nat.lt_of_lt_of_le q.1 g1.2.2.2.1)).tr (g3.sub (fun a q => ⟨Nat.lt_of_lt_of_le q.1 (Nat.le_trans g1.2.2.2.1 g2.2.2.2.1), q.2⟩)))).mono (by decide) (by decide), ho⟩
  rw [e]
  cases res <;> rfl
/-- the new zone lies ahead of the rest of the act -/
theorem tw_mk {d : ZS} {E : OD} (o : OKH h) (C : DC h t st al sh z0 w) (Z0 : ZA h z0 b0 d0) (r0 : rep 9999 d0 D) (r : rep 9999 d E) (ec : EC E) (hn : nn (otl E 4)) (m : Rm 7 58 h) : ∃ res h', F_X2_takesWorked t (some (hSz h)) (mkZ h d) = some (res, h') ∧ Gr (Pt h t) 7 58 h h' ∧ DOut h' t st al sh (w + 1) res (sTake D (otl E 4)) := by
  have g := mkZ_gr (P := fun a => a < hSz h) o d (fun a q => q)
  obtain ⟨res, h', e, g2, ho⟩ := takesWorked_a g.ok (C.gr g (o.lt C.1)) (Z0.gr g (o.lt Z0.1) (o.lt Z0.2.1)) (mkZ_ZA o d) r0 r ec hn (m.gr g (by decide) (by decide))
  exact ⟨res, h', e, (g.sub (fun a q => q.1)).tr (g2.sub (fun a q => ⟨Nat.lt_of_lt_of_le q.1 g.2.2.2.1, q.2⟩)), ho⟩
theorem tk_mk {d : ZS} {E : OD} (o : OKH h) (C : DC h t st al sh z0 w) (Z0 : ZA h z0 b0 d0) (r0 : rep 9999 d0 D) (r : rep 9999 d E) (ec : EC E) (m : Rm 5 41 h) : ∃ res h', F_X2_takes t (some (hSz h)) (mkZ h d) = some (res, h') ∧ Gr (Pt h t) 5 41 h h' ∧ DOut h' t st al sh w res (sTake D E) := by
  have g := mkZ_gr (P := fun a => a < hSz h) o d (fun a q => q)
  obtain ⟨res, h', e, g2, ho⟩ := takes_a g.ok (C.gr g (o.lt C.1)) (Z0.gr g (o.lt Z0.1) (o.lt Z0.2.1)) (mkZ_ZA o d) r0 r (ec.rep n9 r) (ec.bnd.mono (by decide) (by decide)) (m.gr g (by decide) (by decide))
  exact ⟨res, h', e, (g.sub (fun a q => q.1)).tr (g2.sub (fun a q => ⟨Nat.lt_of_lt_of_le q.1 g.2.2.2.1, q.2⟩)), ho⟩
end DK
