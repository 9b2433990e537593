/-! reading and writing a heap of which some cells are known; loops by an invariant -/
theorem lp_inv {σ ρ : Type} {B : σ → Option (σ ⊕ ρ)} {Q : ρ → Prop} (I : Nat → σ → Prop) : ∀ (n k fuel : Nat) (x : σ), (∀ j, k ≤ j → j < k + n → ∀ y, I j y → ∃ z, B y = some (.inl z) ∧ I (j + 1) z) → (∀ y, I (k + n) y → ∃ r, B y = some (.inr r) ∧ Q r) → I k x → n < fuel → ∃ r, lp B fuel x = some r ∧ Q r
  | _, _, 0, _, _, _, _, h => absurd h (Nat.not_lt_zero _)
  | 0, k, f + 1, x, _, he, hx, _ => by
    obtain ⟨r, h1, h2⟩ := he x hx
    exact ⟨r, by unfold lp; rw [h1], h2⟩
  | n + 1, k, f + 1, x, hs, he, hx, h => by
    obtain ⟨z, h1, h2⟩ := hs k (Nat.le_refl _) (by omega) x hx
    obtain ⟨r, h3, h4⟩ := lp_inv I n (k + 1) f z (fun j a b => hs j (by omega) (by omega)) (fun y hy => he y (by rw [show k + (n + 1) = k + 1 + n by omega]; exact hy)) h2 (by omega)
    exact ⟨r, by unfold lp; rw [h1]; exact h3, h4⟩
theorem lp_inv0 {σ ρ : Type} {B : σ → Option (σ ⊕ ρ)} {Q : ρ → Prop} (I : Nat → σ → Prop) (n : Nat) {fuel : Nat} {x : σ} (hs : ∀ j, j < n → ∀ y, I j y → ∃ z, B y = some (.inl z) ∧ I (j + 1) z) (he : ∀ y, I n y → ∃ r, B y = some (.inr r) ∧ Q r) (hx : I 0 x) (h : n < fuel) : ∃ r, lp B fuel x = some r ∧ Q r :=
  lp_inv I n 0 fuel x (fun j _ b => hs j (by omega)) (fun y hy => he y (by rw [Nat.zero_add] at hy; exact hy)) hx h
/-- a loop by a measure that falls -/
theorem lp_mea {σ ρ : Type} {B : σ → Option (σ ⊕ ρ)} {Q : ρ → Prop} (I : σ → Prop) (μ : σ → Nat) (hs : ∀ y, I y → (∃ z, B y = some (.inl z) ∧ I z ∧ μ z < μ y) ∨ ∃ r, B y = some (.inr r) ∧ Q r) : ∀ (fuel : Nat) (x : σ), I x → μ x < fuel → ∃ r, lp B fuel x = some r ∧ Q r
  | 0, _, _, h => absurd h (Nat.not_lt_zero _)
  | f + 1, x, hx, h => by
    rcases hs x hx with ⟨z, h1, h2, h3⟩ | ⟨r, h1, h2⟩
    · obtain ⟨r, h4, h5⟩ := lp_mea I μ hs f z h2 (by omega)
      exact ⟨r, by unfold lp; rw [h1]; exact h4, h5⟩
    · exact ⟨r, by unfold lp; rw [h1], h2⟩
theorem hF_set (h : HH) (a : Nat) (e : AC) (b : Nat) : hF (hset h a e) b = if b = a then some e else hF h b := rfl
theorem hF_set_eq (h : HH) (a : Nat) (e : AC) : hF (hset h a e) a = some e := by rw [hF_set, if_pos rfl]
theorem hF_set_ne (h : HH) {a : Nat} (e : AC) {b : Nat} (n : b ≠ a) : hF (hset h a e) b = hF h b := by rw [hF_set, if_neg n]
theorem hF_push (h : HH) (e : AC) (k b : Nat) : hF (hpush h e k) b = if b = hSz h then some e else hF h b := rfl
theorem hF_push_eq (h : HH) (e : AC) (k : Nat) : hF (hpush h e k) (hSz h) = some e := by rw [hF_push, if_pos rfl]
theorem hF_push_ne (h : HH) (e : AC) (k : Nat) {b : Nat} (n : b ≠ hSz h) : hF (hpush h e k) b = hF h b := by rw [hF_push, if_neg n]
theorem hset_self {h : HH} {a : Nat} {e : AC} (q : hF h a = some e) : hset h a e = h := by
  unfold hset
  have : va_up h.2.2.2 a (some e) = h.2.2.2 := by
    funext b
    unfold va_up
    split
    · rename_i hb
      rw [hb]
      exact q.symm
    · rfl
  rw [this]
theorem hset_set (h : HH) (a : Nat) (e e' : AC) : hset (hset h a e) a e' = hset h a e' := by
  unfold hset
  simp only
  congr 3
  funext b
  unfold va_up
  split <;> rfl
/-- what lies beyond the heap's end is nothing; the law's first objects are made -/
def OKH (h : HH) : Prop := ((∀ a, hSz h ≤ a → hF h a = none) ∧ hB h + 25 ≤ hSz h) ∧ hB h ≤ hSz h
theorem OKH.lt {h : HH} (o : OKH h) {a : Nat} {e : AC} (q : hF h a = some e) : a < hSz h := Classical.byContradiction fun n => by
  rw [o.1.1 a (by omega)] at q
  cases q
theorem OKH.ne {h : HH} (o : OKH h) {a : Nat} {e : AC} (q : hF h a = some e) : a ≠ hSz h := Nat.ne_of_lt (o.lt q)
def Rm (c s : Nat) (h : HH) : Prop := hSz h + c ≤ hLim h ∧ hSl h + s ≤ hSlim h
/-- cells of P are as before; at most c cells of s slots are new -/
def Gr (P : Nat → Prop) (c s : Nat) (h h' : HH) : Prop := h'.1 = h.1 ∧ (∀ a, P a → hF h' a = hF h a) ∧ OKH h' ∧ hSz h ≤ hSz h' ∧ hSz h' ≤ hSz h + c ∧ hSl h ≤ hSl h' ∧ hSl h' ≤ hSl h + s
section GR
variable {P : Nat → Prop} {h h' h1 h2 : HH} {c s c' s' : Nat}
theorem Gr.rf (o : OKH h) : Gr P 0 0 h h := ⟨rfl, fun _ _ => rfl, o, Nat.le_refl _, Nat.le_refl _, Nat.le_refl _, Nat.le_refl _⟩
theorem Gr.ok (g : Gr P c s h h') : OKH h' := g.2.2.1
theorem Gr.tr (g : Gr P c s h h1) (g2 : Gr P c' s' h1 h2) : Gr P (c + c') (s + s') h h2 := by
  obtain ⟨a1, a2, a3, a4, a5, a6, a7⟩ := g
  obtain ⟨b1, b2', b3, b4, b5, b6, b7⟩ := g2
  exact ⟨b1.trans a1, fun a ha => (b2' a ha).trans (a2 a ha), b3, by omega, by omega, by omega, by omega⟩
theorem Gr.mono (g : Gr P c s h h') (hc : c ≤ c') (hs : s ≤ s') : Gr P c' s' h h' := by
  obtain ⟨a1, a2, a3, a4, a5, a6, a7⟩ := g
  exact ⟨a1, a2, a3, a4, by omega, a6, by omega⟩
theorem Gr.sub {P' : Nat → Prop} (g : Gr P c s h h') (hp : ∀ a, P' a → P a) : Gr P' c s h h' := ⟨g.1, fun a ha => g.2.1 a (hp a ha), g.2.2⟩
theorem hB_of (e : h'.1 = h.1) : hB h' = hB h := congrArg (fun x => x.1) e
theorem hLim_of (e : h'.1 = h.1) : hLim h' = hLim h := congrArg (fun x => x.2.1) e
theorem hSlim_of (e : h'.1 = h.1) : hSlim h' = hSlim h := congrArg (fun x => x.2.2.1) e
theorem hSa_of (e : h'.1 = h.1) : hSa h' = hSa h := congrArg (fun x => x.2.2.2) e
theorem Gr.b (g : Gr P c s h h') : hB h' = hB h := hB_of g.1
theorem Rm.gr (r : Rm c s h) (g : Gr P c' s' h h') (hc : c' ≤ c) (hs : s' ≤ s) : Rm (c - c') (s - s') h' := by
  obtain ⟨a1, a2, a3, a4, a5, a6, a7⟩ := g
  obtain ⟨r1, r2⟩ := r
  unfold Rm
  rw [hLim_of a1, hSlim_of a1]
  omega
theorem Rm.mono (r : Rm c s h) (hc : c' ≤ c) (hs : s' ≤ s) : Rm c' s' h := by
  obtain ⟨r1, r2⟩ := r
  unfold Rm
  omega
theorem OKH.set (o : OKH h) {a : Nat} {e e' : AC} (q : hF h a = some e') : OKH (hset h a e) := ⟨⟨fun b hb => by
  have := o.lt q
  rw [hF_set_ne h e (show b ≠ a from fun z => by subst z; exact absurd hb (by show ¬ hSz h ≤ _; omega))]
  exact o.1.1 b hb, o.1.2⟩, o.2⟩
theorem Gr.set (o : OKH h) {a : Nat} {e e' : AC} (q : hF h a = some e') (hp : ¬ P a) : Gr P 0 0 h (hset h a e) :=
  ⟨rfl, fun b hb => hF_set_ne h e (fun z => hp (z ▸ hb)), o.set q, Nat.le_refl _, Nat.le_refl _, Nat.le_refl _, Nat.le_refl _⟩
theorem OKH.push (o : OKH h) (e : AC) (k : Nat) : OKH (hpush h e k) := ⟨⟨fun b hb => by
  have hb : hSz h + 1 ≤ b := hb
  rw [hF_push_ne h e k (by omega)]
  exact o.1.1 b (by omega), Nat.le_succ_of_le o.1.2⟩, Nat.le_succ_of_le o.2⟩
theorem Gr.push (o : OKH h) (e : AC) (k : Nat) (hp : ¬ P (hSz h)) : Gr P 1 k h (hpush h e k) :=
  ⟨rfl, fun b hb => hF_push_ne h e k (fun z => hp (z ▸ hb)), o.push e k, Nat.le_succ _, Nat.le_refl _, Nat.le_add_right _ _, Nat.le_refl _⟩
theorem OKH.skip (o : OKH h) (k : Nat) : OKH (hskip h k) := ⟨⟨fun b hb => by
  have hb : hSz h + 1 ≤ b := hb
  show (if b = hSz h then none else hF h b) = none
  rw [if_neg (by omega)]
  exact o.1.1 b (by omega), Nat.le_succ_of_le o.1.2⟩, Nat.le_succ_of_le o.2⟩
theorem Gr.skip (o : OKH h) (k : Nat) (hp : ¬ P (hSz h)) : Gr P 1 k h (hskip h k) :=
  ⟨rfl, fun b hb => by
    show (if b = hSz h then none else hF h b) = hF h b
    by_cases e : b = hSz h
    · subst e
      exact absurd hb hp
    · rw [if_neg e], o.skip k, Nat.le_succ _, Nat.le_refl _, Nat.le_add_right _ _, Nat.le_refl _⟩
end GR
section RD
variable {h : HH} {a b c k t n : Nat} {fs : List Value}
theorem v_isO (q : hF h a = some (.inr (c, fs))) : isO h c (some a) = some a := by
  unfold isO
  simp only [q, if_true]
theorem v_getV (q : hF h a = some (.inr (c, fs))) : getV h c k (some a) = fs[k]? := by
  unfold getV
  simp only [q, if_true]
theorem v_getR (q : hF h a = some (.inr (c, fs))) (hk : fs[k]? = some (.ref b)) : getR h c k (some a) = some (some b) := by
  unfold getR
  rw [v_getV q, hk]
theorem v_getN (q : hF h a = some (.inr (c, fs))) (hk : fs[k]? = some .null) : getR h c k (some a) = some none := by
  unfold getR
  rw [v_getV q, hk]
theorem v_getI {x : Int32} (q : hF h a = some (.inr (c, fs))) (hk : fs[k]? = some (.int x)) : getI h c k (some a) = some x := by
  unfold getI
  rw [v_getV q, hk]
theorem v_putV {v : Value} (q : hF h a = some (.inr (c, fs))) (hk : k < fs.length) (hb : hB h ≤ a) : putV h c k (some a) v = some (hset h a (.inr (c, fs.set k v))) := by
  unfold putV
  simp only [q]
  exact if_pos ⟨trivial, hk, hb⟩
/-- an index of an array -/
def ix (i : Int32) (j n : Nat) : Prop := ¬ i < 0 ∧ i.toNatClampNeg = j ∧ j < n
theorem v_aget {v : AV} {i : Int32} {j : Nat} (q : hF h a = some (.inl (t, n, v))) (hi : ix i j n) : aget h t (some a) i = some (a, n, v) := by
  unfold aget
  simp only [q]
  rw [if_pos ⟨trivial, by rw [hi.2.1]; exact fun z => z.elim hi.1 (fun y => by have := hi.2.2; omega)⟩]
theorem v_aldI {f : Nat → Int32} {i : Int32} {j : Nat} (q : hF h a = some (.inl (t, n, .inl f))) (hi : ix i j n) : aldI h t (some a) i = some (f j) := by
  unfold aldI
  rw [v_aget q hi, ← hi.2.1]
theorem v_aldR {f : Nat → Option Nat} {i : Int32} {j : Nat} (q : hF h a = some (.inl (t, n, .inr (.inr f)))) (hi : ix i j n) : aldR h t (some a) i = some (f j) := by
  unfold aldR
  rw [v_aget q hi, ← hi.2.1]
theorem v_astI {f : Nat → Int32} {i x : Int32} {j : Nat} (q : hF h a = some (.inl (0, n, .inl f))) (hi : ix i j n) (hb : hB h ≤ a) : astI h (some a) i x = some (hset h a (.inl (0, n, .inl (upd f j x)))) := by
  unfold astI
  rw [v_aget q hi, ← hi.2.1]
  exact if_pos hb
theorem v_astR {f : Nat → Option Nat} {i : Int32} {j : Nat} {v : Option Nat} (q : hF h a = some (.inl (t, n, .inr (.inr f)))) (hi : ix i j n) (hb : hB h ≤ a) (ho : okstH h t v = true) (ht : t = 2 ∨ t = 3) : astR h t (some a) i v = some (hset h a (.inl (t, n, .inr (.inr (va_up f j v))))) := by
  unfold astR
  rw [v_aget q hi, ← hi.2.1]
  exact if_pos ⟨hb, ho, ht⟩
theorem v_okst (q : hF h b = some (.inr (c, fs))) (hb : hB h ≤ b) (ho : okst t c = true) : okstH h t (some b) = true := by
  unfold okstH
  simp only [q, ho, Bool.true_and, decide_eq_true hb]
theorem v_alen {v : AV} (q : hF h a = some (.inl (t, n, v))) (ht : t < 5) : alen h (some a) = some (Int32.ofNat n) := by
  unfold alen
  simp only [q, if_pos ht]
theorem v_newO (r : Rm 1 n h) : newO h c n fs = some (hpush h (.inr (c, fs)) n) := by
  unfold newO
  exact if_pos r
theorem v_newA {i : Int32} (h1 : ¬ i < 0) (h2 : i.toNatClampNeg = n) (h3 : n ≤ 1000000) (r : Rm 1 n h) : newA h t i = some (hpush h (.inl (t, n, zeroA t)) n) := by
  unfold newA
  rw [h2]
  exact if_pos ⟨h1, h3, r.1, r.2⟩
theorem v_cloneA {f : Nat → Int32} (q : hF h a = some (.inl (t, n, .inl f))) (hb : hB h ≤ a) (r : Rm 1 n h) : cloneA h t (some a) = some (hpush h (.inl (t, n, .inl f)) n) := by
  unfold cloneA
  simp only [q]
  exact if_pos ⟨trivial, hb, r.1, r.2⟩
theorem v_castA {v : AV} (q : hF h a = some (.inl (t, n, v))) (hb : hB h ≤ a) : castA h t (some a) = some () := by
  unfold castA
  simp only [q]
  exact if_pos ⟨trivial, hb⟩
theorem v_newE (r : Rm 1 6 h) : newE h = some (hskip h 6) := by
  unfold newE
  exact if_pos r
end RD
theorem ix_of : ∀ j n, j < n → n ≤ 20000 → ix (I32 j) j n := fun j n h h2 => by
  have e : (I32 j).toInt = (j : Int) := by
    exact Int32.toInt_ofNat_of_lt (by omega)
  refine ⟨fun z => ?_, ?_, h⟩
  · have := Int32.lt_iff_toInt_lt.mp z
    rw [e] at this
    have z0 : (0 : Int32).toInt = 0 := rfl
    omega
  · show (I32 j).toInt.toNat = j
    rw [e]
    omega
