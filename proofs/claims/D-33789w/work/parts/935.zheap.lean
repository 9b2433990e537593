/-! zones in the heap -/
def ZA (h : HH) (z b : Nat) (d : ZS) : Prop := hF h z = some (.inr (3, [.ref b])) ∧ hF h b = some (.inl (0, 16, .inl d)) ∧ (hB h ≤ z ∧ (b < hB h + 11 ∨ hB h + 25 ≤ b)) ∧ hB h ≤ b
theorem ZA.ne {h : HH} {z b : Nat} {d : ZS} (Z : ZA h z b d) : z ≠ b := fun e => by
  have h1 := Z.1
  rw [e, Z.2.1] at h1
  cases h1
theorem ZA.W {h : HH} {z b : Nat} {d : ZS} (Z : ZA h z b d) : WFZ z b h := ⟨Z.1, Z.ne, Z.2.2.2⟩
theorem ZA.self {h : HH} {z b : Nat} {d : ZS} (Z : ZA h z b d) : pz b d h = h := hset_self Z.2.1
theorem ZA.pz {h : HH} {z b : Nat} {d : ZS} (Z : ZA h z b d) (d' : ZS) : ZA (pz b d' h) z b d' := ⟨by
  show hF (hset h b _) z = _
  rw [hF_set_ne h _ Z.ne]
  exact Z.1, hF_set_eq h b _, Z.2.2⟩
theorem ZA.gr {P : Nat → Prop} {c s : Nat} {h h' : HH} {z b : Nat} {d : ZS} (Z : ZA h z b d) (g : Gr P c s h h') (pz : P z) (pb : P b) : ZA h' z b d :=
  ⟨by rw [g.2.1 z pz]; exact Z.1, by rw [g.2.1 b pb]; exact Z.2.1, by rw [g.b]; exact Z.2.2.1, by rw [g.b]; exact Z.2.2.2⟩
theorem gr_pz {P : Nat → Prop} {h : HH} {z b : Nat} {d : ZS} (o : OKH h) (Z : ZA h z b d) (hp : ¬ P b) (d' : ZS) : Gr P 0 0 h (pz b d' h) := Gr.set o Z.2.1 hp
/-- a zone that is new -/
def mkZ (h : HH) (d : ZS) : HH := hpush (hpush h (.inr (3, [.ref (hSz h + 1)])) 1) (.inl (0, 16, .inl d)) 16
theorem mkZ_ZA {h : HH} (o : OKH h) (d : ZS) : ZA (mkZ h d) (hSz h) (hSz h + 1) d :=
  ⟨by
    show hF (hpush _ _ _) (hSz h) = _
    rw [hF_push_ne _ _ _ (show hSz h ≠ hSz h + 1 by omega)]
    exact hF_push_eq _ _ _, hF_push_eq _ _ _, ⟨o.2, Or.inr (Nat.le_succ_of_le o.1.2)⟩, Nat.le_succ_of_le o.2⟩
theorem mkZ_gr {P : Nat → Prop} {h : HH} (o : OKH h) (d : ZS) (hp : ∀ a, P a → a < hSz h) : Gr P 2 17 h (mkZ h d) :=
  (Gr.push o _ 1 (fun q => Nat.lt_irrefl _ (hp _ q))).tr (Gr.push (o.push _ 1) _ 16 (fun q => by
    have h1 : hSz h + 1 < hSz h := hp _ q
    omega))
theorem mkZ_pz (h : HH) (d d' : ZS) : pz (hSz h + 1) d' (mkZ h d) = mkZ h d' := by
  unfold pz mkZ hset hpush
  simp only [hSz]
  congr 3
  funext a
  unfold va_up
  split <;> rfl
theorem z_init2 {h : HH} (o : OKH h) {z b : Nat} {d : ZS} (Z : ZA h z b d) (r : Rm 2 17 h) : F_X3_init_2 (hSz h) (some z) (hpush h (.inr (3, [.null])) 1) = some (mkZ h d) := by
  have h1 : hF (hpush h (.inr (3, [.null])) 1) z = some (.inr (3, [.ref b])) := by rw [hF_push_ne _ _ _ (o.ne Z.1)]; exact Z.1
  have h2 : hF (hpush h (.inr (3, [.null])) 1) b = some (.inl (0, 16, .inl d)) := by rw [hF_push_ne _ _ _ (o.ne Z.2.1)]; exact Z.2.1
  have r1 : Rm 1 16 (hpush h (.inr (3, [.null])) 1) := by
    obtain ⟨a, b⟩ := r
    exact ⟨by show hSz h + 1 + 1 ≤ hLim h; omega, by show hSl h + 1 + 16 ≤ hSlim h; omega⟩
  have h3 : hF (hpush (hpush h (.inr (3, [.null])) 1) (.inl (0, 16, .inl d)) 16) (hSz h) = some (.inr (3, [.null])) := by
    rw [hF_push_ne _ _ _ (show hSz h ≠ hSz h + 1 by omega)]
    exact hF_push_eq _ _ _
  have h4 : castA (hpush (hpush h (.inr (3, [.null])) 1) (.inl (0, 16, .inl d)) 16) 0 (some (hSz (hpush h (.inr (3, [.null])) 1))) = some () := v_castA (hF_push_eq _ _ _) (Nat.le_succ_of_le o.2)
  unfold F_X3_init_2
  rw [show nnl (some (hSz h)) = some (hSz h) from rfl, bind_some9, v_getR h1 rfl, bind_some9, v_cloneA h2 Z.2.2.2 r1, bind_some9, h4, bind_some9]
  show Option.bind (putV _ 3 0 (some (hSz h)) (.ref (hSz h + 1))) _ = _
  rw [v_putV h3 (by decide) o.2, bind_some9]
  apply congrArg some
  unfold mkZ hset hpush
  simp only [hSz]
  congr 3
  funext a
  simp only [va_up, List.set]
  by_cases e1 : a = h.2.1
  · rw [if_pos e1, if_neg (by omega), if_pos e1]
  · rw [if_neg e1]
    by_cases e2 : a = h.2.1 + 1
    · rw [if_pos e2, if_pos e2]
    · rw [if_neg e2, if_neg e1, if_neg e2, if_neg e1]
theorem Rm.push1 {h : HH} {c s k : Nat} (r : Rm (c + 1) (s + k) h) (e : AC) : Rm c s (hpush h e k) := by
  obtain ⟨a, b⟩ := r
  exact ⟨by show hSz h + 1 + c ≤ hLim h; omega, by show hSl h + k + s ≤ hSlim h; omega⟩
section ZH
variable {h : HH} {z b : Nat} {d : ZS}
theorem z_tightens (Z : ZA h z b d) : F_X3_tightens z h = some (pz b (gtl 9999 d 4) h) := by
  have e := e_X3_tightens Z.W d
  rw [Z.self] at e
  rw [e, p_tightens, zt_g]
  rfl
theorem z_tight (o : OKH h) (Z : ZA h z b d) (r : Rm 2 17 h) : F_X3_tight z h = some (some (hSz h), mkZ h (gtl 9999 d 4)) := by
  have Z2 := mkZ_ZA o d
  unfold F_X3_tight
  rw [v_newO (r.mono (by decide) (by decide)), bind_some9, show nnl (some (hSz h)) = some (hSz h) from rfl, bind_some9, z_init2 o Z r, bind_some9, v_isO Z2.1, bind_some9, z_tightens Z2, bind_some9, mkZ_pz]
theorem z_hasNone {D : OD} (Z : ZA h z b d) (hr : rep 9999 d D) : ∃ v, F_X3_hasNone z h = some v ∧ fl v (¬ nn D) := by
  have e := e_X3_hasNone Z.W d
  rw [Z.self] at e
  rw [e]
  exact p_hasNone hr
theorem z_isTooFar {D : OD} (Z : ZA h z b d) (hr : rep 9999 d D) (hb : bd (-100000000) 100000000 D) : ∃ v, F_X3_isTooFar z h = some v ∧ fl v (¬ LateF D) := by
  have e := e_X3_isTooFar Z.W d
  rw [Z.self] at e
  rw [e]
  exact p_isTooFar hr hb
theorem z_isTooGreat {D : OD} (Z : ZA h z b d) (hr : rep 9999 d D) : ∃ v, F_X3_isTooGreat z h = some v ∧ fl v (¬ Great D) := by
  have e := e_X3_isTooGreat Z.W d
  rw [Z.self] at e
  rw [e]
  exact p_isTooGreat hr
theorem z_at {i j : Nat} (hi : i < 4) (hj : j < 4) (Z : ZA h z b d) : F_X3_at z (I32 i) (I32 j) h = some (d (4 * i + j)) := by
  have e := e_X3_at Z.W (I32 i) (I32 j) d
  rw [Z.self] at e
  rw [e, p_at hi hj]
theorem z_sets {i j : Nat} (hi : i < 4) (hj : j < 4) (Z : ZA h z b d) (x : Int32) : F_X3_sets z (I32 i) (I32 j) x h = some (pz b (upd d (4 * i + j) x) h) := by
  have e := e_X3_sets Z.W (I32 i) (I32 j) x d
  rw [Z.self] at e
  rw [e, p_sets hi hj]
  rfl
theorem z_tells {i j : Nat} (hi : i < 4) (hj : j < 4) (Z : ZA h z b d) (x : Int32) : F_X3_tells z (I32 i) (I32 j) x h = some (pz b (upd d (4 * i + j) (gmin (d (4 * i + j)) x)) h) := by
  have e := e_X3_tells Z.W (I32 i) (I32 j) x d
  rw [Z.self] at e
  rw [e, p_tells hi hj]
  rfl
theorem z_resets {c : Nat} (hc : c < 3) {v : Int32} {w : Int} (hv : v.toInt = w) (hw : 0 ≤ w ∧ w ≤ 9) {D : OD} (Z : ZA h z b d) (hr : rep 9999 d D) (hb : bd (-70000) 9000 D) : ∃ d', F_X3_resets z (I32 c) v h = some (pz b d' h) ∧ rep 9999 d' (oreset D c w) := by
  have e := e_X3_resets Z.W (I32 c) v d
  rw [Z.self] at e
  obtain ⟨d', e2, h2⟩ := p_resets hc hv hw hr hb
  rw [e, e2]
  exact ⟨d', rfl, h2⟩
theorem z_delays {D : OD} (Z : ZA h z b d) (hr : rep 9999 d D) : ∃ d', F_X3_delays z h = some (ocnt D 3, pz b d' h) ∧ rep 9999 d' (odelay D) := by
  have e := e_X3_delays Z.W d
  rw [Z.self] at e
  obtain ⟨d', e2, h2⟩ := p_delays hr
  rw [e, e2]
  exact ⟨d', rfl, h2⟩
theorem z_goesBack {D : OD} (Z : ZA h z b d) (hr : rep 9999 d D) : ∃ d', F_X3_goesBack z h = some (pz b d' h) ∧ rep 9999 d' (oback D) := by
  have e := e_X3_goesBack Z.W d
  rw [Z.self] at e
  obtain ⟨d', e2, h2⟩ := p_goesBack hr
  rw [e, e2]
  exact ⟨d', rfl, h2⟩
theorem z_frees {c : Nat} (hc : c < 3) {D : OD} (Z : ZA h z b d) (hr : rep 9999 d D) : ∃ d', F_X3_frees z (I32 c) h = some (pz b d' h) ∧ rep 9999 d' (ofree D c) := by
  have e := e_X3_frees Z.W (I32 c) d
  rw [Z.self] at e
  obtain ⟨d', e2, h2⟩ := p_frees hc hr
  rw [e, e2]
  exact ⟨d', rfl, h2⟩
theorem z_copies {c f : Nat} (hc : c < 3) (hf : f < 3) (hn : c ≠ f) {D : OD} (Z : ZA h z b d) (hr : rep 9999 d D) (hd : dg0 D) : ∃ d', F_X3_copies z (I32 c) (I32 f) h = some (pz b d' h) ∧ rep 9999 d' (ocopy D c f) := by
  have e := e_X3_copies Z.W (I32 c) (I32 f) d
  rw [Z.self] at e
  obtain ⟨d', e2, h2⟩ := p_copies hc hf hn hr hd
  rw [e, e2]
  exact ⟨d', rfl, h2⟩
theorem z_shifts {c : Nat} (hc : c < 3) {v : Int32} {w : Int} (hv : v.toInt = w) (hw : 1 ≤ w ∧ w ≤ 9) {D : OD} (Z : ZA h z b d) (hr : rep 9999 d D) (hb : bd (-70000) 9000 D) : ∃ d', F_X3_shifts z (I32 c) v h = some (pz b d' h) ∧ rep 9999 d' (oshift D c w) := by
  have e := e_X3_shifts Z.W (I32 c) v d
  rw [Z.self] at e
  obtain ⟨d', e2, h2⟩ := p_shifts hc hv hw hr hb
  rw [e, e2]
  exact ⟨d', rfl, h2⟩
theorem z_widens {D : OD} (Z : ZA h z b d) (hr : rep 9999 d D) : ∃ d', F_X3_widens z h = some (pz b d' h) ∧ rep 9999 d' (owiden D) := by
  have e := e_X3_widens Z.W d
  rw [Z.self] at e
  obtain ⟨d', e2, h2⟩ := p_widens hr
  rw [e, e2]
  exact ⟨d', rfl, h2⟩
end ZH
/-- how many bounds are other ones -/
noncomputable def bq (P : Prop) : Bool := @decide P (Classical.propDecidable P)
theorem bq_t {P : Prop} : bq P = true ↔ P := by
  unfold bq
  exact @decide_eq_true_iff P (Classical.propDecidable P)
theorem bq_f {P : Prop} : bq P = false ↔ ¬ P := by
  unfold bq
  exact @decide_eq_false_iff_not P (Classical.propDecidable P)
noncomputable def dcnt (D E : OD) : Nat → Int32
  | 0 => 0
  | j + 1 => dcnt D E j + (if D j = E j then (0 : Int32) else (1 : Int32))
theorem rep1_inj {N x y : Int32} (hN : 9999 ≤ N.toInt) {a b : Option Int} (h1 : rep1 N x a) (h2 : rep1 N y b) : x = y ↔ a = b := by
  cases a with
  | none =>
    have h1 : x = N := h1
    cases b with
    | none =>
      have h2 : y = N := h2
      exact ⟨fun _ => rfl, fun _ => by rw [h1, h2]⟩
    | some t => exact ⟨fun e => by rw [← e, h1] at h2; have := h2.1; have := h2.2; omega, fun e => by cases e⟩
  | some s =>
    cases b with
    | none =>
      have h2 : y = N := h2
      exact ⟨fun e => by rw [e, h2] at h1; have := h1.1; have := h1.2; omega, fun e => by cases e⟩
    | some t => exact ⟨fun e => by rw [e] at h1; rw [← h1.1, ← h2.1], fun e => by cases e; exact Int32.toInt_inj.mp (h1.1.trans h2.1.symm)⟩
theorem z_unlike {h : HH} {z b z' b' : Nat} {d d' : ZS} {D E : OD} (Z : ZA h z b d) (Z' : ZA h z' b' d') (hr : rep 9999 d D) (hr' : rep 9999 d' E) : F_X3_unlike z (some z') h = some (dcnt D E 16) := by
  have L := lp_for0 (B := fun q => F_X3_unlike_B4 z (some z') q.1 q.2 h) (r := dcnt D E 16) (fun k => (dcnt D E k, I32 k)) 16 (fun k hk => by
    show F_X3_unlike_B4 z (some z') (dcnt D E k) (I32 k) h = _
    unfold F_X3_unlike_B4
    rw [if_neg (n16 hk), v_getR Z.1 rfl, bind_some9, v_aldI Z.2.1 (ix_of k 16 hk (by decide)), bind_some9, v_getR Z'.1 rfl, bind_some9, v_aldI Z'.2.1 (ix_of k 16 hk (by decide)), bind_some9, i32s k (by omega)]
    have e : (if d k = d' k then (0 : Int32) else (1 : Int32)) = (if D k = E k then (0 : Int32) else (1 : Int32)) := by
      have := rep1_inj n9 (hr k hk) (hr' k hk)
      by_cases q : D k = E k
      · rw [if_pos q, if_pos (this.mpr q)]
      · rw [if_neg q, if_neg (fun w => q (this.mp w))]
    rw [e]
    rfl) (by
    show F_X3_unlike_B4 z (some z') (dcnt D E 16) (I32 16) h = _
    unfold F_X3_unlike_B4
    rw [if_pos (by decide)]) 100000 (by decide)
  unfold F_X3_unlike
  have L2 : lp (fun q => F_X3_unlike_B4 z (some z') q.1 q.2 h) 100000 ((0 : Int32), (0 : Int32)) = some (dcnt D E 16) := L
  rw [L2]
  rfl
def inside (D E : OD) : Prop := ∀ i, i < 16 → ole (D i) (E i)
theorem rep1_lt {N x y : Int32} (hN : 9999 ≤ N.toInt) {a b : Option Int} (h1 : rep1 N x a) (h2 : rep1 N y b) : ¬ y < x ↔ ole a b := by
  rw [Int32.lt_iff_toInt_lt]
  cases a with
  | none =>
    have h1 : x = N := h1
    cases b with
    | none =>
      have h2 : y = N := h2
      rw [h1, h2]
      exact ⟨fun _ => True.intro, fun _ => Int.lt_irrefl _⟩
    | some t => exact ⟨fun e => e (by have := h2.1; have := h2.2; rw [h1]; omega), fun e => e.elim⟩
  | some s =>
    cases b with
    | none =>
      have h2 : y = N := h2
      exact ⟨fun _ => True.intro, fun _ => by have := h1.1; have := h1.2; rw [h2]; omega⟩
    | some t =>
      rw [h1.1, h2.1]
      show _ ↔ s ≤ t
      omega
theorem z_isInside {h : HH} {z b z' b' : Nat} {d d' : ZS} {D E : OD} (Z : ZA h z b d) (Z' : ZA h z' b' d') (hr : rep 9999 d D) (hr' : rep 9999 d' E) : ∃ v, F_X3_isInside z (some z') h = some v ∧ fl v (inside D E) := by
  have L : ∃ v, lp (fun q => F_X3_isInside_B4 z (some z') q.1 q.2 h) 100000 ((1 : Int32), (0 : Int32)) = some v ∧ fl v (inside D E) := by
    refine lp_inv0 (fun k y => y.2 = I32 k ∧ fl y.1 (∀ i, i < k → ole (D i) (E i))) 16 (fun k hk y hy => ?_) (fun y hy => ?_) ⟨rfl, Or.inl ⟨rfl, fun i hi => absurd hi (Nat.not_lt_zero i)⟩⟩ (by decide)
    · obtain ⟨x, i⟩ := y
      obtain ⟨rfl, hf⟩ := hy
      refine ⟨_, by
        show F_X3_isInside_B4 z (some z') x (I32 k) h = _
        unfold F_X3_isInside_B4
        rw [if_neg (n16 hk), v_getR Z.1 rfl, bind_some9, v_aldI Z.2.1 (ix_of k 16 hk (by decide)), bind_some9, v_getR Z'.1 rfl, bind_some9, v_aldI Z'.2.1 (ix_of k 16 hk (by decide)), bind_some9, i32s k (by omega)], rfl, ?_⟩
      refine fl_congr (fl_and hf fl_neg) ⟨fun q i hi => ?_, fun q => ⟨fun i hi => q i (by omega), (rep1_lt n9 (hr k hk) (hr' k hk)).mpr (q k (by omega))⟩⟩
      by_cases e : i = k
      · subst e
        exact (rep1_lt n9 (hr i hk) (hr' i hk)).mp q.2
      · exact q.1 i (by omega)
    · obtain ⟨x, i⟩ := y
      obtain ⟨rfl, hf⟩ := hy
      exact ⟨x, by
        show F_X3_isInside_B4 z (some z') x (I32 16) h = _
        unfold F_X3_isInside_B4
        rw [if_pos (by decide)], hf⟩
  obtain ⟨v, e, hf⟩ := L
  refine ⟨v, ?_, hf⟩
  unfold F_X3_isInside
  rw [e, bind_some9, fl_okZ hf]
  rfl
