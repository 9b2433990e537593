/-! both sides of an act on the zone -/
theorem deq_otl {D E : OD} (e : ∀ i, i < 16 → D i = E i) : ∀ i, i < 16 → otl D 4 i = otl E 4 i := fun i hi =>
  ole_antisymm (otl_mono (fun j hj => by rw [e j hj]; exact ole_refl _) 4 (Nat.le_refl _) i hi) (otl_mono (fun j hj => by rw [e j hj]; exact ole_refl _) 4 (Nat.le_refl _) i hi)
theorem nn_congr {D E : OD} (e : ∀ i, i < 16 → D i = E i) (h : nn D) : nn E := fun j hj t ht => h j hj t (by rw [e _ (by omega)]; exact ht)
theorem LateF_congr {D E : OD} (e : ∀ i, i < 16 → D i = E i) (h : LateF D) : LateF E := fun j hj t ht => h j hj t (by rw [e _ (by omega)]; exact ht)
theorem GZ.congr {D E : OD} (G : GZ D) (e : ∀ i, i < 16 → D i = E i) : GZ E := ⟨fun k hk => by rw [← e _ (by omega)]; exact G.1 k hk, fun j hj => by rw [← e _ (by omega)]; exact G.2.1 j hj, fun i hi t ht => G.2.2.1 i hi t (by rw [e i hi]; exact ht), fun hn => LateF_congr (deq_otl e) (G.2.2.2 (nn_congr (fun i hi => (deq_otl e i hi).symm) hn))⟩
/-- what holds of every desk's numbers -/
def lineOK (s : Nat → Int32) (l : Nat) : Prop := isC 5 (s (103 + 9 * l)) ∧ isC 5 (s (104 + 9 * l)) ∧ (∀ c, c < 3 → isC 9 (s (105 + 9 * l + c)) ∧ isC 10 (s (108 + 9 * l + c))) ∧ isC 7 (s (111 + 9 * l))
def ShG (s : Nat → Int32) : Prop := ∀ k, k < 4 → s (80 + k) = 0 ∨ (s (80 + k) = 1 ∧ rep 100000 (sub s (16 + 16 * k)) (Zs s (16 + 16 * k)) ∧ GZ (Zs s (16 + 16 * k)))
def LiG (s : Nat → Int32) : Prop := ∃ N, N ≤ 10 ∧ s 102 = I32 N ∧ (∀ l, l < N → lineOK s l) ∧ ∀ l, N ≤ l → l < 10 → (∀ c, c < 3 → s (105 + 9 * l + c) = 0) ∧ s (111 + 9 * l) = 0
def GoodS (s : Nat → Int32) : Prop := rep 100000 (sub s 0) (Zs s 0) ∧ GZ (Zs s 0) ∧ ShG s ∧ (∀ i, i < 18 → isC 10 (s (84 + i))) ∧ LiG s
theorem Zs_eq {s s' : Nat → Int32} {o o' : Nat} (e : ∀ i, i < 16 → s' (o' + i) = s (o + i)) (r : rep 100000 (sub s o) (Zs s o)) : rep 100000 (sub s' o') (Zs s' o') := fun i hi => by
  have h := r i hi
  unfold sub at h ⊢
  rw [e i hi, ← Zs_congr e i hi]
  exact h
theorem LiG.congr {s s' : Nat → Int32} (h : LiG s) (a : ∀ i, 102 ≤ i → i < 193 → s' i = s i) : LiG s' := by
  obtain ⟨N, h1, h2, h3, h4⟩ := h
  refine ⟨N, h1, by rw [a 102 (by omega) (by omega)]; exact h2, fun l hl => ?_, fun l hl h10 => ?_⟩
  · obtain ⟨x1, x2, x3, x4⟩ := h3 l hl
    exact ⟨by rw [a _ (by omega) (by omega)]; exact x1, by rw [a _ (by omega) (by omega)]; exact x2, fun c hc => ⟨by rw [a _ (by omega) (by omega)]; exact (x3 c hc).1, by rw [a _ (by omega) (by omega)]; exact (x3 c hc).2⟩, by rw [a _ (by omega) (by omega)]; exact x4⟩
  · exact ⟨fun c hc => by rw [a _ (by omega) (by omega)]; exact (h4 l hl h10).1 c hc, by rw [a _ (by omega) (by omega)]; exact (h4 l hl h10).2⟩
theorem ShG.congr {s s' : Nat → Int32} (h : ShG s) (a : ∀ i, 16 ≤ i → i < 84 → s' i = s i) : ShG s' := fun k hk => by
  have e : ∀ i, i < 16 → s' (16 + 16 * k + i) = s (16 + 16 * k + i) := fun i hi => a _ (by omega) (by omega)
  rw [a (80 + k) (by omega) (by omega)]
  rcases h k hk with q | ⟨q1, q2, q3⟩
  · exact Or.inl q
  · exact Or.inr ⟨q1, Zs_eq e q2, q3.congr (Zs_congr e)⟩
theorem GoodS.zone {s s' : Nat → Int32} {E : OD} (h : GoodS s) (r : rep 100000 (sub s' 0) E) (G : GZ E) (a : agr s s') : GoodS s' := ⟨rep_congr r (fun i hi => (Zs_rep r i hi).symm), G.congr (fun i hi => (Zs_rep r i hi).symm), h.2.2.1.congr (fun i h1 h2 => a i h1 (by omega)), fun i hi => by rw [a _ (by omega) (by omega)]; exact h.2.2.2.1 i hi, h.2.2.2.2.congr (fun i h1 h2 => a i (by omega) h2)⟩
def noF (v : Int32) : Prop := v ≠ -11 ∧ v ≠ -12
theorem noF_n {v : Int32} (h : 0 ≤ v.toInt) : noF v := ⟨fun e => by subst e; exact absurd h (by decide), fun e => by subst e; exact absurd h (by decide)⟩
/-- how an act comes out on both sides -/
def JOut (n : Nat) (h h' : HH) (t : Nat) (S S' : MS) (res : (Nat × String) ⊕ Int32) (v : Int32) (vr : Int32 → Int32 → Prop) : Prop := Gr (fun a => a < n) 20 300 h h' ∧ SX S S' ∧ ((v = -11 ∧ Ref res h' 1) ∨ (v = -12 ∧ Ref res h' 2) ∨ ∃ u, res = .inr u ∧ noF v ∧ vr u v ∧ DR n h' t (S'.1 0) ∧ GoodS (S'.1 0))
def JOp (n : Nat) (h : HH) (t : Nat) (S : MS) (F : Option (((Nat × String) ⊕ Int32) × HH)) (go : Option (Int32 × MS)) (vr : Int32 → Int32 → Prop) : Prop := ∃ res h' v S', F = some (res, h') ∧ go = some (v, S') ∧ JOut n h h' t S S' res v vr
theorem gr_pt {n c k : Nat} {h h' : HH} {t : Nat} (g : Gr (Pt h t) c k h h') (hn : n ≤ hSz h) (ht : n ≤ t) : Gr (fun a => a < n) c k h h' := g.sub (fun a q => ⟨Nat.lt_of_lt_of_le q hn, fun e => by have q : a < n := q; omega⟩)
theorem j_arg {n : Nat} {h h' : HH} {t : Nat} {S : MS} {F : Option (((Nat × String) ⊕ Int32) × HH)} {go : Option (Int32 × MS)} {vr : Int32 → Int32 → Prop} {res : (Nat × String) ⊕ Int32} (e1 : F = some (res, h')) (g : Gr (fun a => a < n) 20 300 h h') (r : Ref res h' 1) (e2 : go = some (-11, S)) : JOp n h t S F go vr := ⟨res, h', -11, S, e1, e2, g, SX.rf S, Or.inl ⟨rfl, r⟩⟩
/-- an act on the zone that went through its arguments -/
theorem j_zone {n : Nat} {h h' : HH} {t : Nat} {S S' : MS} {F : Option (((Nat × String) ⊕ Int32) × HH)} {go : Option (Int32 × MS)} {vr : Int32 → Int32 → Prop} {res : (Nat × String) ⊕ Int32} {v w w0 : Int32} {st al sh z0 : Nat} {x y : Option (Int32 × OD)} (o : OKH h) (hn : n ≤ hSz h) (C0 : DC h t st al sh z0 w0) (ht : n ≤ t) (Sr : StR n h st (S.1 0)) (H : ShR n h sh (S.1 0)) (L : LiR n h al (S.1 0)) (G : GoodS (S.1 0)) (e1 : F = some (res, h')) (g : Gr (Pt h t) 20 200 h h') (dO : DOut h' t st al sh w res x) (e2 : go = some (v, S')) (sx : SX S S') (mO : MOut S S' w v y) (hxy : (x = none ∧ y = none) ∨ ∃ u u' E, x = some (u, E) ∧ y = some (u', E) ∧ GZ E ∧ noF u' ∧ vr u u') : JOp n h t S F go vr := by
  refine ⟨res, h', v, S', e1, e2, (gr_pt g hn ht).mono (by decide) (by decide), sx, ?_⟩
  rcases hxy with ⟨rfl, rfl⟩ | ⟨u, u', E, rfl, rfl, GE, nf, hv⟩
  · exact Or.inr (Or.inl ⟨mO, dO⟩)
  · obtain ⟨rfl, z, b, d, C, Z, r⟩ := dO
    obtain ⟨rfl, r2, w2, a⟩ := mO
    exact Or.inr (Or.inr ⟨u, rfl, nf, hv, DR.zone o g C0 ht Sr H L C ⟨b, d, Z, r⟩ (fun i hi => (Zs_rep r2 i hi).symm) w2 (fun i h1 h2 => a i h1 h2), GoodS.zone G r2 GE (fun i h1 h2 => a i h1 h2)⟩)
theorem dcnt_n (D E : OD) : ∀ k, k ≤ 16 → ∃ m, m ≤ k ∧ dcnt D E k = I32 m
  | 0, _ => ⟨0, Nat.le_refl _, rfl⟩
  | k + 1, h => by
    obtain ⟨m, hm, e⟩ := dcnt_n D E k (by omega)
    unfold dcnt
    rw [e]
    by_cases q : D k = E k
    · rw [if_pos q]
      exact ⟨m, by omega, Int32.add_zero _⟩
    · rw [if_neg q, i32s m (by omega)]
      exact ⟨m + 1, by omega, rfl⟩
theorem dcnt_noF (D E : OD) : noF (dcnt D E 16) := by
  obtain ⟨m, hm, e⟩ := dcnt_n D E 16 (Nat.le_refl _)
  rw [e]
  exact noF_n (by rw [i32t (by omega)]; omega)
theorem GZ_work {E : OD} (ec : EC E) (hn : nn (otl E 4)) (hk : takeOK (otl E 4)) : GZ (otl E 4) := by
  have cl := clo_otl hn
  have l := hk.1
  rw [otl_clo cl 4 (Nat.le_refl _)] at l
  exact GZ_clo cl (dg0_otl ec.1 hn) (zneg_le (otl_le E 4) ec.2.1) (l hn) hk.2
/-- what both sides answer where a worked row is taken -/
theorem hx_work {D E : OD} {f f' : Int32 → Int32} {vr : Int32 → Int32 → Prop} (ec : nn (otl D 4) → EC E ∧ nn (otl E 4)) (hv : nn (otl D 4) → ∀ k, noF (f' (dcnt D k 16)) ∧ vr (f (dcnt D k 16)) (f' (dcnt D k 16))) : (sWork D E f = none ∧ sWork D E f' = none) ∨ ∃ u u' K, sWork D E f = some (u, K) ∧ sWork D E f' = some (u', K) ∧ GZ K ∧ noF u' ∧ vr u u' := by
  by_cases hn : nn (otl D 4)
  · obtain ⟨e1, e2⟩ := ec hn
    rw [sWork_t hn, sWork_t hn]
    by_cases hk : takeOK (otl E 4)
    · rw [sTake_t hk]
      exact Or.inr ⟨_, _, _, rfl, rfl, GZ_work e1 e2 hk, (hv hn _).1, (hv hn _).2⟩
    · rw [sTake_f hk]
      exact Or.inl ⟨rfl, rfl⟩
  · rw [sWork_f hn, sWork_f hn]
    exact Or.inl ⟨rfl, rfl⟩
theorem hx_workB {D E B : OD} {vr : Int32 → Int32 → Prop} (ec : nn (otl D 4) → EC E ∧ nn (otl E 4)) (hv : ∀ k, vr (dcnt D k 16) (dcnt B k 16)) : (sWork D E (fun v => v) = none ∧ sWorkB B D E = none) ∨ ∃ u u' K, sWork D E (fun v => v) = some (u, K) ∧ sWorkB B D E = some (u', K) ∧ GZ K ∧ noF u' ∧ vr u u' := by
  unfold sWorkB
  by_cases hn : nn (otl D 4)
  · obtain ⟨e1, e2⟩ := ec hn
    rw [sWork_t hn, if_pos (bq_t.mpr hn)]
    by_cases hk : takeOK (otl E 4)
    · rw [sTake_t hk, if_pos (bq_t.mpr hk)]
      exact Or.inr ⟨_, _, _, rfl, rfl, GZ_work e1 e2 hk, dcnt_noF _ _, hv _⟩
    · rw [sTake_f hk, bq_f.mpr hk]
      exact Or.inl ⟨rfl, rfl⟩
  · rw [sWork_f hn, bq_f.mpr hn]
    exact Or.inl ⟨rfl, rfl⟩
def vr1 (u v : Int32) : Prop := (∃ m, m ≤ 16 ∧ u = I32 m) ∧ v = if u = 0 then (0 : Int32) else (1 : Int32)
theorem hx_one {D E : OD} (hG : takeOK E → GZ E) : (sTake D E = none ∧ sOne D E = none) ∨ ∃ u u' K, sTake D E = some (u, K) ∧ sOne D E = some (u', K) ∧ GZ K ∧ noF u' ∧ vr1 u u' := by
  unfold sOne
  by_cases hk : takeOK E
  · rw [sTake_t hk]
    refine Or.inr ⟨_, _, _, rfl, rfl, hG hk, ?_, dcnt_n _ _ 16 (Nat.le_refl _), rfl⟩
    show noF (if dcnt D E 16 = 0 then (0 : Int32) else (1 : Int32))
    split <;> exact ⟨by decide, by decide⟩
  · rw [sTake_f hk]
    exact Or.inl ⟨rfl, rfl⟩
def vrE (u v : Int32) : Prop := v = u
def vrB (B D : OD) (u v : Int32) : Prop := (∀ i, i < 16 → B i = D i) → v = u
theorem dcnt_congr {B D : OD} (e : ∀ i, i < 16 → B i = D i) (K : OD) : ∀ k, k ≤ 16 → dcnt B K k = dcnt D K k
  | 0, _ => rfl
  | k + 1, h => by
    unfold dcnt
    rw [dcnt_congr e K k (by omega), e k (by omega)]
theorem up_nonneg {T : OD} (h : Tt T) {c : Nat} (hc : c < 3) {t : Int} (e : T (4 * c + 3) = some t) : 0 ≤ t := by
  obtain ⟨a, ea, ha⟩ := h.2.2.1 c hc
  have h1 := h.1 c (by omega) 3 (by decide) 3 (by decide)
  rw [show 4 * 3 + 3 = 15 from rfl, show 4 * 3 + c = 12 + c by omega, h.d15, ea, e] at h1
  have h1 : (0 : Int) ≤ a + t := h1
  omega
theorem had_noF {T : OD} (h : Tt T) {c : Nat} (hc : c < 3) : noF (hadv (T (4 * c + 3))) := by
  cases e : T (4 * c + 3) with
  | none => exact ⟨by decide, by decide⟩
  | some t =>
    have h0 := up_nonneg h hc e
    have h1 := (h.2.2.2.2 _ (by omega) t e).2
    refine noF_n ?_
    show 0 ≤ (Int32.ofInt t).toInt
    rw [Int32.toInt_ofInt_of_le (by omega) (by omega)]
    exact h0
theorem oval_noF {a : Option Int} {t : Int} (e : a = some t) (h0 : t ≤ 0) (h1 : -1000 ≤ t) : noF (-(oval a)) := by
  subst e
  refine noF_n ?_
  have e1 : (oval (some t)).toInt = t := Int32.toInt_ofInt_of_le (by omega) (by omega)
  rw [toInt_negS (by rw [e1]; omega), e1]
  omega
theorem ocnt_noF (T : OD) : noF (ocnt T 3) := by
  have h : ∀ k, k ≤ 3 → ∃ m, m ≤ k ∧ ocnt T k = I32 m := fun k => by
    induction k with
    | zero => exact fun _ => ⟨0, Nat.le_refl _, rfl⟩
    | succ k ih =>
      intro hk
      obtain ⟨m, hm, e⟩ := ih (by omega)
      show ∃ m, _ ∧ ocnt T k + c01 (T (4 * k + 3)) = I32 m
      rw [e]
      cases T (4 * k + 3) with
      | none => exact ⟨m, by omega, Int32.add_zero _⟩
      | some t => exact ⟨m + 1, by omega, i32s m (by omega)⟩
  obtain ⟨m, hm, e⟩ := h 3 (Nat.le_refl _)
  rw [e]
  exact noF_n (by rw [i32t (by omega)]; omega)
theorem clo_plain : clo oplain := fun k hk i hi j hj => by
  rcases or4 hk with rfl | rfl | rfl | rfl <;> rcases or4 hi with rfl | rfl | rfl | rfl <;> rcases or4 hj with rfl | rfl | rfl | rfl <;> first
    | exact True.intro
    | exact (show (0 : Int) ≤ 0 + 0 by decide)
theorem GZ_plain : GZ oplain := GZ_clo clo_plain EC_plain.1 EC_plain.2.1 (fun c hc t ht => by
  obtain ⟨s, e, _⟩ := EC_plain.2.1 c hc
  have e0 : oplain (12 + c) = some 0 := by
    unfold oplain
    rw [(zr_div hc).1, if_pos (Or.inr rfl)]
  rw [e0] at ht
  cases ht
  omega) (fun i hi t ht => by
  unfold oplain at ht
  split at ht
  · cases ht
    omega
  · cases ht)
theorem take_plain : takeOK oplain := ⟨GZ_plain.2.2.2, fun i hi t ht => (GZ_plain.2.2.1 i hi t ht).2⟩
