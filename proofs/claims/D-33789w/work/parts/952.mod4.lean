/-! the model's acts that work on the tight zone -/
theorem MOut.map {S S' : MS} {w v : Int32} {x y : Option (Int32 × OD)} (e : x = y) (h : MOut S S' w v x) : MOut S S' w v y := e ▸ h
theorem MOut.sx {S S1 S' : MS} {w v : Int32} {x : Option (Int32 × OD)} (e : S1.1 0 = S.1 0) (h : MOut S1 S' w v x) : MOut S S' w v x := by
  cases x with
  | none => exact h
  | some q =>
    obtain ⟨a, b, c, d⟩ := h
    exact ⟨a, b, c, fun i h1 h2 => by rw [d i h1 h2, e]⟩
section MH
variable {S : MS} {D : OD}
theorem sWork_eq (hn : nn (otl D 4)) {E : OD} (f : Int32 → Int32) (v : Int32) (hv : f (dcnt D (otl E 4) 16) = v) : (if bq (takeOK (otl E 4)) then some (v, otl E 4) else none) = sWork D E f := by
  rw [sWork_t hn]
  by_cases hk : takeOK (otl E 4)
  · rw [if_pos (bq_t.mpr hk), sTake_t hk, ← hv]
    rfl
  · rw [bq_f.mpr hk, sTake_f hk]
    rfl
/-- looking at the zone ahead of an act -/
theorem m_ready (hr : rep 100000 (sub (S.1 0) 0) D) (G : GZ D) : ∃ v t, P_X4_looks S = some (v, setA S 9 t) ∧ fl v (nn (otl D 4)) ∧ rep 100000 t (otl D 4) := by
  obtain ⟨v, t, e, r, f⟩ := m_looks S hr G.toEC.RG
  exact ⟨v, t, e, f, r⟩
theorem m_goTighten {B : OD} (hr : rep 100000 (sub (S.1 0) 0) D) (G : GZ D) (hb : rep 100000 (sub (S.1 1) 0) B) : ∃ v S', P_X4_goTighten S = some (v, S') ∧ SX S S' ∧ MOut S S' (S.1 0 193) v (if bq (nn (otl D 4) ∧ takeOK (otl D 4)) then some (dcnt B (otl D 4) 16, otl D 4) else none) := by
  obtain ⟨v, t, e, f, r⟩ := m_ready hr G
  unfold P_X4_goTighten
  rw [e, pb2_s]
  by_cases hn : nn (otl D 4)
  · have T := G.Tt hn
    rw [if_neg (fun q => (fl_0 f).mp q hn), m_carries (K := 9) (K' := 0) (o := 0) (o' := 0) (a := (0 : Int32)) (b := (0 : Int32)) (setA S 9 t) rfl rfl (by decide) (by decide) (by decide) (by decide) (Or.inl (by decide)), bind_some9]
    have g2 : ∀ i, (mov (setA S 9 t) 9 0 0 0 16).1 0 i = if i < 16 then t i else S.1 0 i := fun i => by
      rw [mov_get, setA_get, setA_ne S _ (by decide)]
      by_cases h : i < 16
      · rw [if_pos (by omega), if_pos h, Nat.zero_add, Nat.sub_zero]
      · rw [if_neg (by omega), if_neg h]
    have r2 : rep 100000 (sub ((mov (setA S 9 t) 9 0 0 0 16).1 0) 0) (otl D 4) := fun i hi => by
      unfold sub
      rw [Nat.zero_add, g2, if_pos hi]
      exact r i hi
    obtain ⟨v9, e9, f9⟩ := m_isTooFar _ r2
    rw [e9, bind_some9]
    have sx : SX S (mov (setA S 9 t) 9 0 0 0 16) := (SX.set S _ (by decide)).tr (SX.mov _ (by decide))
    have lt : takeOK (otl D 4) ↔ Great (otl D 4) := ⟨fun h => h.2, fun h => ⟨fun _ => by rw [otl_clo T.1 4 (Nat.le_refl _)]; exact T.2.2.2.1, h⟩⟩
    by_cases hg : Great (otl D 4)
    · rw [if_pos ((fl_0 f9).mpr (fun q => q hg)), m_changed _ r2 (B := B) (by rw [sx.2 1 (by decide) (by decide) (by decide)]; exact hb), bind_some9, if_pos (bq_t.mpr ⟨hn, lt.mpr hg⟩)]
      exact ⟨_, _, rfl, sx, rfl, r2, by rw [g2, if_neg (by decide)], fun i h1 h2 => by rw [g2, if_neg (by omega)]⟩
    · rw [if_neg (fun q => (fl_0 f9).mp q hg), bq_f.mpr (fun q => hg (lt.mp q.2))]
      exact ⟨_, _, rfl, sx, rfl⟩
  · rw [if_pos ((fl_0 f).mpr hn), bq_f.mpr (fun q => hn q.1)]
    exact ⟨_, _, rfl, SX.set S _ (by decide), rfl⟩
theorem m_goReset (a1 a2 : Int32) (hr : rep 100000 (sub (S.1 0) 0) D) (G : GZ D) : (¬ (isC 2 a1 ∧ 0 ≤ a2.toInt ∧ a2.toInt ≤ 9) → P_X4_goReset a1 a2 S = some (-11, S)) ∧ ∀ c, c ≤ 2 → a1 = I32 c → 0 ≤ a2.toInt ∧ a2.toInt ≤ 9 → ∃ v S', P_X4_goReset a1 a2 S = some (v, S') ∧ SX S S' ∧ MOut S S' (S.1 0 193 + 1) v (sWork D (oreset (otl D 4) c a2.toInt) (fun _ => hadv (otl D 4 (4 * c + 3)))) := by
  constructor
  · intro n
    unfold P_X4_goReset
    by_cases h1 : F_X4_isClock a1 = 0
    · rw [if_pos h1]
    · rw [if_neg h1]
      have h2 : F_X4_in a2 0 9 = 0 := (fl_0 (in_fl a2 0 9)).mpr (fun q => n ⟨Classical.byContradiction fun z => h1 ((fl_0 (isClock_fl a1)).mpr z), q⟩)
      rw [if_pos h2]
  · intro c hc e1 hb
    unfold P_X4_goReset
    rw [if_neg (fun q => (fl_0 (isClock_fl a1)).mp q ⟨c, hc, e1⟩), if_neg (fun q => (fl_0 (in_fl a2 0 9)).mp q hb)]
    subst e1
    obtain ⟨v, t, e, f, r⟩ := m_ready hr G
    rw [e, pb2_s]
    by_cases hn : nn (otl D 4)
    · have T := G.Tt hn
      obtain ⟨d', e2, r2⟩ := m_resets S (c := c) (by omega) (v := a2) rfl hb r (T.2.2.2.2.mono (by decide) (by decide)) T.2.1 (zr_of T.2.1 T.2.2.1)
      rw [if_neg (fun q => (fl_0 f).mp q hn), m_most (by omega), bind_some9, e2, bind_some9, rep1_had n5 (r (4 * c + 3) (by omega))]
      obtain ⟨v3, S3, e3, sx, mo⟩ := m_tells S (hadv (otl D 4 (4 * c + 3))) r2 (EC_reset T (by omega) hb) (nn_reset T (by omega) _)
      rw [e3, pb2_s]
      exact ⟨_, _, rfl, sx, MOut.map (sWork_eq hn (fun _ => hadv (otl D 4 (4 * c + 3))) _ rfl) mo⟩
    · rw [if_pos ((fl_0 f).mpr hn), sWork_f hn]
      exact ⟨_, _, rfl, SX.set S _ (by decide), rfl⟩
theorem m_goDelay (hr : rep 100000 (sub (S.1 0) 0) D) (G : GZ D) : ∃ v S', P_X4_goDelay S = some (v, S') ∧ SX S S' ∧ MOut S S' (S.1 0 193 + 1) v (sWork D (odelay (otl D 4)) (fun _ => ocnt (otl D 4) 3)) := by
  unfold P_X4_goDelay
  obtain ⟨v, t, e, f, r⟩ := m_ready hr G
  rw [e, pb2_s]
  by_cases hn : nn (otl D 4)
  · have T := G.Tt hn
    obtain ⟨d', e2, r2⟩ := m_delays S r
    rw [if_neg (fun q => (fl_0 f).mp q hn), e2, pb2_s]
    obtain ⟨v3, S3, e3, sx, mo⟩ := m_tells S (ocnt (otl D 4) 3) r2 (EC_delay T) (nn_delay T)
    rw [e3, pb2_s]
    exact ⟨_, _, rfl, sx, MOut.map (sWork_eq hn (fun _ => ocnt (otl D 4) 3) _ rfl) mo⟩
  · rw [if_pos ((fl_0 f).mpr hn), sWork_f hn]
    exact ⟨_, _, rfl, SX.set S _ (by decide), rfl⟩
/-- like sWork, where the bounds that are other ones are told: against those of before -/
noncomputable def sWorkB (B D E : OD) : Option (Int32 × OD) := if bq (nn (otl D 4)) then (if bq (takeOK (otl E 4)) then some (dcnt B (otl E 4) 16, otl E 4) else none) else none
theorem sWorkB_eq (D E : OD) : sWorkB D D E = sWork D E (fun v => v) := by
  unfold sWorkB
  by_cases hn : nn (otl D 4)
  · rw [if_pos (bq_t.mpr hn), sWork_eq hn (fun v => v) _ rfl]
  · rw [bq_f.mpr hn, sWork_f hn]
    rfl
theorem m_goWayBack {B : OD} (hr : rep 100000 (sub (S.1 0) 0) D) (G : GZ D) (hb : rep 100000 (sub (S.1 1) 0) B) : ∃ v S', P_X4_goWayBack S = some (v, S') ∧ SX S S' ∧ MOut S S' (S.1 0 193 + 1) v (sWorkB B D (oback (otl D 4))) := by
  unfold P_X4_goWayBack
  obtain ⟨v, t, e, f, r⟩ := m_ready hr G
  rw [e, pb2_s]
  unfold sWorkB
  by_cases hn : nn (otl D 4)
  · have T := G.Tt hn
    obtain ⟨d', e2, r2⟩ := m_back S r T.2.1
    rw [if_neg (fun q => (fl_0 f).mp q hn), e2, bind_some9, if_pos (bq_t.mpr hn)]
    obtain ⟨v3, S3, e3, sx, mo⟩ := m_toldBounds S r2 (EC_back T) (nn_back T) hb
    rw [e3, pb2_s]
    exact ⟨_, _, rfl, sx, mo⟩
  · rw [if_pos ((fl_0 f).mpr hn), bq_f.mpr hn]
    exact ⟨_, _, rfl, SX.set S _ (by decide), rfl⟩
theorem m_goFree {B : OD} (a1 : Int32) (hr : rep 100000 (sub (S.1 0) 0) D) (G : GZ D) (hb : rep 100000 (sub (S.1 1) 0) B) : (¬ isC 2 a1 → P_X4_goFree a1 S = some (-11, S)) ∧ ∀ c, c ≤ 2 → a1 = I32 c → ∃ v S', P_X4_goFree a1 S = some (v, S') ∧ SX S S' ∧ MOut S S' (S.1 0 193 + 1) v (sWorkB B D (ofree (otl D 4) c)) := by
  constructor
  · intro n
    unfold P_X4_goFree
    rw [if_pos ((fl_0 (isClock_fl a1)).mpr n)]
  · intro c hc e1
    unfold P_X4_goFree
    rw [if_neg (fun q => (fl_0 (isClock_fl a1)).mp q ⟨c, hc, e1⟩)]
    subst e1
    obtain ⟨v, t, e, f, r⟩ := m_ready hr G
    rw [e, pb2_s]
    unfold sWorkB
    by_cases hn : nn (otl D 4)
    · have T := G.Tt hn
      obtain ⟨d', e2, r2⟩ := m_free S (c := c) (by omega) r T.2.1
      rw [if_neg (fun q => (fl_0 f).mp q hn), if_pos (bq_t.mpr hn)]
      obtain ⟨v3, S3, e3, sx, mo⟩ := m_toldBounds S r2 (EC_free T (by omega)) (nn_free T (by omega)) hb
      refine ⟨v3, S3, ?_, sx, mo⟩
      have assoc : ∀ (x : Option MS) (f : MS → Option MS) (g : MS → Option (Int32 × MS)), (Option.bind x fun a => Option.bind (f a) g) = Option.bind (Option.bind x f) g := fun x f g => by cases x <;> rfl
      rw [assoc, e2, bind_some9, e3, pb2_s]
    · rw [if_pos ((fl_0 f).mpr hn), bq_f.mpr hn]
      exact ⟨_, _, rfl, SX.set S _ (by decide), rfl⟩
theorem m_goCopy (a1 a2 : Int32) (hr : rep 100000 (sub (S.1 0) 0) D) (G : GZ D) : ((¬ ∃ c f, cpyP a1 a2 c f) → P_X4_goCopy a1 a2 S = some (-11, S)) ∧ ∀ c f, cpyP a1 a2 c f → ∃ v S', P_X4_goCopy a1 a2 S = some (v, S') ∧ SX S S' ∧ MOut S S' (S.1 0 193 + 1) v (sWork D (ocopy (otl D 4) c f) (fun _ => -(oval (otl D 4 (12 + f))))) := by
  have fa := cpyArg_fl a1 a2
  have ua : cpyArg a1 a2 = if F_X4_isClock a1 = 0 then (0 : Int32) else if F_X4_isClock a2 = 0 then (0 : Int32) else if a1 = a2 then (0 : Int32) else (1 : Int32) := rfl
  constructor
  · intro n
    unfold P_X4_goCopy
    have h0 := (fl_0 fa).mpr n
    rw [ua] at h0
    by_cases h1 : F_X4_isClock a1 = 0
    · rw [if_pos h1]
    · rw [if_neg h1] at h0 ⊢
      by_cases h2 : F_X4_isClock a2 = 0
      · rw [if_pos h2]
      · rw [if_neg h2] at h0 ⊢
        by_cases h3 : a1 = a2
        · rw [if_pos h3]
        · rw [if_neg h3] at h0
          exact absurd h0 (by decide)
  · intro c f p
    obtain ⟨hc, hf, hn', e1, e2⟩ := id p
    unfold P_X4_goCopy
    rw [if_neg (fun q => (fl_0 (isClock_fl a1)).mp q ⟨c, by omega, e1⟩), if_neg (fun q => (fl_0 (isClock_fl a2)).mp q ⟨f, by omega, e2⟩), if_neg (fun q => hn' (i32inj (by omega) (by omega) (by rw [← e1, ← e2]; exact q)))]
    subst e1
    subst e2
    obtain ⟨v, t, e, fv, r⟩ := m_ready hr G
    rw [e, pb2_s]
    by_cases hn : nn (otl D 4)
    · have T := G.Tt hn
      obtain ⟨d', e3, r2⟩ := m_copy S hc hf hn' r
      have cl := clo_copy (c := c) (f := f) T.2.1 (by omega) (by omega) T.1
      have ec := EC_copy T hc hf
      obtain ⟨x, ex, _⟩ := T.2.2.1 f hf
      have hv := r2 (12 + f) (by omega)
      have e5 : ocopy (otl D 4) c f (12 + f) = otl D 4 (12 + f) := by
        rw [show 12 + f = 4 * 3 + f by omega, copy_at T.2.1 (by omega) (by omega) (by decide) (by omega), if_neg (by omega), if_neg (by omega)]
      rw [e5] at hv
      rw [if_neg (fun q => (fl_0 fv).mp q hn), e3, bind_some9, m_least (by omega), bind_some9, rep1_val hv ex]
      obtain ⟨v3, S3, e4, sx, mo⟩ := m_tells S (-(oval (otl D 4 (12 + f)))) r2 ec (nn_clo cl ec.1)
      rw [e4, pb2_s]
      exact ⟨_, _, rfl, sx, MOut.map (sWork_eq hn (fun _ => -(oval (otl D 4 (12 + f)))) _ rfl) mo⟩
    · rw [if_pos ((fl_0 fv).mpr hn), sWork_f hn]
      exact ⟨_, _, rfl, SX.set S _ (by decide), rfl⟩
theorem m_goShift (a1 a2 : Int32) (hr : rep 100000 (sub (S.1 0) 0) D) (G : GZ D) : (¬ (isC 2 a1 ∧ 1 ≤ a2.toInt ∧ a2.toInt ≤ 9) → P_X4_goShift a1 a2 S = some (-11, S)) ∧ ∀ c, c ≤ 2 → a1 = I32 c → 1 ≤ a2.toInt ∧ a2.toInt ≤ 9 → ∃ v S', P_X4_goShift a1 a2 S = some (v, S') ∧ SX S S' ∧ MOut S S' (S.1 0 193 + 1) v (sWork D (oshift (otl D 4) c a2.toInt) (fun _ => -(oval (oshift (otl D 4) c a2.toInt (12 + c))))) := by
  constructor
  · intro n
    unfold P_X4_goShift
    by_cases h1 : F_X4_isClock a1 = 0
    · rw [if_pos h1]
    · rw [if_neg h1]
      have h2 : F_X4_in a2 1 9 = 0 := (fl_0 (in_fl a2 1 9)).mpr (fun q => n ⟨Classical.byContradiction fun z => h1 ((fl_0 (isClock_fl a1)).mpr z), q⟩)
      rw [if_pos h2]
  · intro c hc e1 hb
    unfold P_X4_goShift
    rw [if_neg (fun q => (fl_0 (isClock_fl a1)).mp q ⟨c, hc, e1⟩), if_neg (fun q => (fl_0 (in_fl a2 1 9)).mp q hb)]
    subst e1
    obtain ⟨v, t, e, f, r⟩ := m_ready hr G
    rw [e, pb2_s]
    by_cases hn : nn (otl D 4)
    · have T := G.Tt hn
      obtain ⟨d', e2, r2⟩ := m_shift S (c := c) (by omega) (b := a2) rfl hb r (T.2.2.2.2.mono (by decide) (by decide))
      have cl := clo_shift (c := c) (b := a2.toInt) (by omega) T.1
      have ec := EC_shift (c := c) T (by omega) hb
      obtain ⟨x, ex, _⟩ := ec.2.1 c (by omega)
      rw [if_neg (fun q => (fl_0 f).mp q hn), e2, bind_some9, m_least (by omega), bind_some9, rep1_val (r2 (12 + c) (by omega)) ex]
      obtain ⟨v3, S3, e3, sx, mo⟩ := m_tells S (-(oval (oshift (otl D 4) c a2.toInt (12 + c)))) r2 ec (nn_clo cl ec.1)
      rw [e3, pb2_s]
      exact ⟨_, _, rfl, sx, MOut.map (sWork_eq hn (fun _ => -(oval (oshift (otl D 4) c a2.toInt (12 + c)))) _ rfl) mo⟩
    · rw [if_pos ((fl_0 f).mpr hn), sWork_f hn]
      exact ⟨_, _, rfl, SX.set S _ (by decide), rfl⟩
end MH
