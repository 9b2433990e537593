/-! ferries: rows within narrower bounds; what a line makes of a row -/
def EB (lo up : Int) (E : OD) : Prop := dg0 E ∧ (∀ j, j < 3 → ∃ t, E (12 + j) = some t ∧ t ≤ 0) ∧ bd lo up E
theorem EB.ec {lo up : Int} {E : OD} (h : EB lo up E) (h1 : -70000 ≤ lo) (h2 : up ≤ 3300) : EC E := ⟨h.1, h.2.1, fun i hi t ht => by
  have := h.2.2 i hi t ht
  omega⟩
theorem EB.mono {lo up lo' up' : Int} {E : OD} (h : EB lo up E) (h1 : lo' ≤ lo) (h2 : up ≤ up') : EB lo' up' E := ⟨h.1, h.2.1, fun i hi t ht => by
  have := h.2.2 i hi t ht
  omega⟩
theorem EB_otl {lo up : Int} {E : OD} (h : EB lo up E) (hl : lo ≤ 0) (hu : 0 ≤ up) (hn : nn (otl E 4)) : EB (16 * lo) (3 * up) (otl E 4) := ⟨dg0_otl h.1 hn, zneg_le (otl_le E 4) h.2.1, fun i hi t ht => by
  have h1 := lo16 (m := lo) hl hn (fun i hi t ht => (h.2.2 i hi t ht).1) i hi t ht
  have h2 := otl_up (U := up) hu h.1 (fun j hj => (h.2.1 j hj).elim fun t q => ⟨t, q.1⟩) (fun i hi t ht => (h.2.2 i hi t ht).2) i hi t ht
  exact ⟨h1, h2⟩⟩
theorem EB_okp {lo up : Int} {D : OD} (h : EB lo up D) (h1 : -70000 ≤ lo) (h2 : up ≤ 3300) (hl : lo ≤ 0) (hu : 10 ≤ up) (u : Nat → Int32) (hc : ∀ c, c < 3 → isC 10 (u c)) : EB lo up (okp 3 u D) := by
  have e := EC_okp (h.ec h1 h2) u hc
  refine ⟨e.1, e.2.1, fun m hm t ht => ?_⟩
  have ht : (if m % 4 = 3 ∧ m / 4 < 3 then omin (D m) (if u (m / 4) = 10 then none else some (u (m / 4)).toInt) else D m) = some t := ht
  by_cases q : m % 4 = 3 ∧ m / 4 < 3
  · rw [if_pos q] at ht
    rcases omin_some ht with w | w
    · exact h.2.2 m hm t w
    · by_cases q2 : u (m / 4) = 10
      · rw [if_pos q2] at w
        cases w
      · rw [if_neg q2] at w
        cases w
        obtain ⟨n, hn, en⟩ := hc (m / 4) q.2
        rw [en, big_t (by omega)]
        omega
  · rw [if_neg q] at ht
    exact h.2.2 m hm t ht
theorem EB_ond {lo up : Int} {D : OD} (h : EB lo up D) (h1 : -70000 ≤ lo) (h2 : up ≤ 3300) (hl : lo ≤ -9) (hu : 10 ≤ up) (le mo : Nat → Int32) (hc1 : ∀ c, c < 3 → isC 9 (le c)) (hc2 : ∀ c, c < 3 → isC 10 (mo c)) : EB lo up (ond 3 le mo D) := by
  have e := EC_ond (h.ec h1 h2) le mo hc1 hc2
  refine ⟨e.1, e.2.1, fun m hm t ht => ?_⟩
  have ht : (if m % 4 = 3 ∧ m / 4 < 3 then omin (D m) (if mo (m / 4) = 10 then none else some (mo (m / 4)).toInt) else if 12 ≤ m ∧ m < 12 + 3 then omin (D m) (some (-(le (m - 12)).toInt)) else D m) = some t := ht
  by_cases q : m % 4 = 3 ∧ m / 4 < 3
  · rw [if_pos q] at ht
    rcases omin_some ht with w | w
    · exact h.2.2 m hm t w
    · by_cases q2 : mo (m / 4) = 10
      · rw [if_pos q2] at w
        cases w
      · rw [if_neg q2] at w
        cases w
        obtain ⟨n, hn, en⟩ := hc2 (m / 4) q.2
        rw [en, big_t (by omega)]
        omega
  · rw [if_neg q] at ht
    by_cases q3 : 12 ≤ m ∧ m < 12 + 3
    · rw [if_pos q3] at ht
      rcases omin_some ht with w | w
      · exact h.2.2 m hm t w
      · cases w
        obtain ⟨n, hn, en⟩ := hc1 (m - 12) (by omega)
        rw [en, big_t (by omega)]
        omega
    · rw [if_neg q3] at ht
      exact h.2.2 m hm t ht
theorem EB_orst {lo up : Int} {D : OD} (h : EB lo up D) (h1 : -70000 ≤ lo) (h2 : up ≤ 3300) (bits : Nat → Bool) : ∀ j, j ≤ 3 → EB lo up (orst bits D j)
  | 0, _ => h
  | j + 1, hj => by
    show EB lo up (if bits j then _ else _)
    split
    · have ih := EB_orst h h1 h2 bits j (by omega)
      have e := EC_reset0 (ih.ec h1 h2) (c := j) (by omega)
      refine ⟨e.1, e.2.1, fun m hm t ht => ?_⟩
      rw [or0] at ht
      by_cases q1 : m / 4 = j ∧ m % 4 ≠ j
      · rw [if_pos q1] at ht
        exact ih.2.2 _ (by omega) t ht
      · rw [if_neg q1] at ht
        by_cases q2 : m % 4 = j ∧ m / 4 ≠ j
        · rw [if_pos q2] at ht
          exact ih.2.2 _ (by omega) t ht
        · rw [if_neg q2] at ht
          exact ih.2.2 _ hm t ht
    · exact EB_orst h h1 h2 bits j (by omega)
theorem EB_delay {lo up : Int} {D : OD} (h : EB lo up D) : EB lo up (odelay D) := by
  refine ⟨fun k hk => ?_, fun j hj => ?_, fun i hi t ht => ?_⟩
  · unfold odelay
    rw [(dg_div hk).1, (dg_div hk).2, if_neg (by omega)]
    exact h.1 k hk
  · unfold odelay
    rw [(zr_div hj).1, (zr_div hj).2, if_neg (by omega)]
    exact h.2.1 j hj
  · unfold odelay at ht
    split at ht
    · cases ht
    · exact h.2.2 i hi t ht
theorem owid_le (a : Option Int) : ole a (owid1 a) := by
  cases a with
  | none => exact True.intro
  | some t =>
    show ole (some t) (if 9 < t then none else some (if t < -10 then -10 else t))
    split
    · exact True.intro
    · show t ≤ (if t < -10 then -10 else t)
      split <;> omega
theorem dle_widen (D : OD) : dle D (owiden D) := fun i _ => owid_le (D i)
theorem EB_widen {D : OD} (hd : dg0 D) (hz : ∀ j, j < 3 → ∃ t, D (12 + j) = some t ∧ t ≤ 0) : EB (-10) 9 (owiden D) := by
  refine ⟨fun k hk => ?_, fun j hj => ?_, fun i hi t ht => ?_⟩
  · unfold owiden
    rw [hd k hk]
    rfl
  · obtain ⟨t, e, h0⟩ := hz j hj
    unfold owiden
    rw [e]
    refine ⟨if t < -10 then -10 else t, ?_, ?_⟩
    · show (if 9 < t then none else some (if t < -10 then -10 else t)) = _
      rw [if_neg (by omega)]
    · split <;> omega
  · have ht : owid1 (D i) = some t := ht
    cases e : D i with
    | none =>
      rw [e] at ht
      cases ht
    | some s =>
      rw [e] at ht
      have ht : (if 9 < s then none else some (if s < -10 then -10 else s)) = some t := ht
      by_cases q : 9 < s
      · rw [if_pos q] at ht
        cases ht
      · rw [if_neg q] at ht
        have ht := Option.some.inj ht
        by_cases q2 : s < -10
        · rw [if_pos q2] at ht
          omega
        · rw [if_neg q2] at ht
          omega
/-- what a harbour allows -/
def st3 (s : Nat → Int32) (p : Nat) : Nat → Int32 := fun c => s (84 + (3 * p + c))
def oE1 (s : Nat → Int32) (l : Nat) (T : OD) : OD := otl (ond 3 (fun c => s (105 + 9 * l + c)) (fun c => s (108 + 9 * l + c)) T) 4
def oE2 (s : Nat → Int32) (l : Nat) (T : OD) : OD := orst (lbit s l) (oE1 s l T) 3
def oE3 (s : Nat → Int32) (p : Nat) (D : OD) : OD := otl (okp 3 (st3 s p) D) 4
def oE5 (s : Nat → Int32) (p : Nat) (E : OD) : OD := otl (owiden (oE3 s p (odelay E))) 4
noncomputable def oarr (s : Nat → Int32) (p : Nat) (D : OD) : Option OD := if bq (nn (oE3 s p D)) then some (oE5 s p (oE3 s p D)) else none
noncomputable def ogoes (s : Nat → Int32) (l p : Nat) (T : OD) : Option OD := if bq (nn (oE1 s l T)) then oarr s p (oE2 s l T) else none
theorem okp_keep {E D : OD} {u : Nat → Int32} (h : dle E (okp 3 u D)) : dle E (okp 3 u (odelay E)) := fun m hm => by
  have h1 := h m hm
  unfold okp at h1 ⊢
  by_cases q : m % 4 = 3 ∧ m / 4 < 3
  · rw [if_pos q] at h1 ⊢
    exact ole_omin (dle_delay E m hm) (ole_trans h1 (omin_le_r _ _))
  · rw [if_neg q]
    exact dle_delay E m hm
section FY8
variable {s : Nat → Int32} {p l : Nat} {D T : OD}
/-- an arrival: all that is needed of its rows -/
theorem stp_ok (hc : ∀ c, c < 3 → isC 10 (st3 s p c)) (h : EB (-2560) 81 D) : EC (okp 3 (st3 s p) D) ∧ (nn (oE3 s p D) → EC (okp 3 (st3 s p) (odelay (oE3 s p D))) ∧ nn (oE3 s p (odelay (oE3 s p D))) ∧ dg0 (oE3 s p (odelay (oE3 s p D))) ∧ EC (owiden (oE3 s p (odelay (oE3 s p D)))) ∧ nn (oE5 s p (oE3 s p D)) ∧ EB (-160) 27 (oE5 s p (oE3 s p D))) := by
  have k1 := EB_okp h (by decide) (by decide) (by decide) (by decide) (st3 s p) hc
  refine ⟨k1.ec (by decide) (by decide), fun hn => ?_⟩
  have k2 : EB (-40960) 243 (oE3 s p D) := EB_otl k1 (by decide) (by decide) hn
  have k3 := EB_okp (EB_delay k2) (by decide) (by decide) (by decide) (by decide) (st3 s p) hc
  have c3 : clo (oE3 s p D) := clo_otl hn
  have d4 : dle (oE3 s p D) (oE3 s p (odelay (oE3 s p D))) := otl_least (okp_keep (otl_le _ 4)) c3
  have n4 : nn (oE3 s p (odelay (oE3 s p D))) := nn_mono d4 hn
  have k4 : EB (16 * -40960) (3 * 243) (oE3 s p (odelay (oE3 s p D))) := EB_otl k3 (by decide) (by decide) n4
  have k5 := EB_widen k4.1 k4.2.1
  have d5 : dle (oE3 s p D) (oE5 s p (oE3 s p D)) := otl_least (dle_trans d4 (dle_widen _)) c3
  have n5' : nn (oE5 s p (oE3 s p D)) := nn_mono d5 hn
  exact ⟨k3.ec (by decide) (by decide), n4, k4.1, k5.ec (by decide) (by decide), n5', EB_otl k5 (by decide) (by decide) n5'⟩
theorem goes_ok (hk : lineOK s l) (h : EB (-160) 27 T) : EC (ond 3 (fun c => s (105 + 9 * l + c)) (fun c => s (108 + 9 * l + c)) T) ∧ (nn (oE1 s l T) → EC (oE1 s l T) ∧ EB (-2560) 81 (oE2 s l T)) := by
  have k1 := EB_ond h (by decide) (by decide) (by decide) (by decide) (fun c => s (105 + 9 * l + c)) (fun c => s (108 + 9 * l + c)) (fun c hc => (hk.2.2.1 c hc).1) (fun c hc => (hk.2.2.1 c hc).2)
  refine ⟨k1.ec (by decide) (by decide), fun hn => ?_⟩
  have k2 : EB (-2560) 81 (oE1 s l T) := EB_otl k1 (by decide) (by decide) hn
  exact ⟨k2.ec (by decide) (by decide), EB_orst k2 (by decide) (by decide) _ 3 (Nat.le_refl _)⟩
end FY8
