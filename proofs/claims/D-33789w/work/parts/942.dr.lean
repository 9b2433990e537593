/-! a desk in the heap, for the model's row of numbers -/
def Zs (s : Nat → Int32) (o : Nat) : OD := fun i => if s (o + i) = 100000 then none else some (s (o + i)).toInt
/-- the kind of a cell: of an object its class, of an array its sort and length -/
def kd : AC → Nat × Nat
  | .inl (t, n, _) => (t + 1, n)
  | .inr (c, _) => (0, c)
/-- cells of other kinds than X are kept -/
def KeepX (X : Nat × Nat → Prop) (h h' : HH) : Prop := h'.1 = h.1 ∧ (∀ a e, hF h a = some e → ¬ X (kd e) → hF h' a = some e) ∧ ∀ a c fs, hF h a = some (.inr (c, fs)) → ∃ fs', hF h' a = some (.inr (c, fs'))
section KX
variable {X : Nat × Nat → Prop} {h h' : HH}
theorem KeepX.b (k : KeepX X h h') : hB h' = hB h := hB_of k.1
theorem KeepX.gr {c s : Nat} (o : OKH h) (g : Gr (fun a => a < hSz h) c s h h') : KeepX X h h' := ⟨g.1, fun a e q _ => by rw [g.2.1 a (o.lt q)]; exact q, fun a c fs q => ⟨fs, by rw [g.2.1 a (o.lt q)]; exact q⟩⟩
/-- one old cell alone is another one -/
theorem KeepX.one {c s t : Nat} {e e' : AC} (o : OKH h) (g : Gr (fun a => a < hSz h ∧ a ≠ t) c s h h') (C : hF h t = some e) (C' : hF h' t = some e') (hx : X (kd e)) (hk : kd e' = kd e) : KeepX X h h' := ⟨g.1, fun a f q n => by
  rw [g.2.1 a ⟨o.lt q, fun z => ?_⟩]
  · exact q
  · subst z
    rw [C] at q
    cases q
    exact n hx, fun a c f2 q => by
  by_cases z : a = t
  · subst z
    rw [C] at q
    cases q
    cases e' with
    | inl v =>
      have hk : (v.1 + 1, v.2.1) = (0, c) := hk
      cases hk
    | inr v =>
      obtain ⟨c', f⟩ := v
      have hk : (0, c') = (0, c) := hk
      cases hk
      exact ⟨f, C'⟩
  · exact ⟨f2, by rw [g.2.1 a ⟨o.lt q, z⟩]; exact q⟩⟩
end KX
def ZR (h : HH) (z : Nat) (D : OD) : Prop := ∃ b d, ZA h z b d ∧ rep 9999 d D
section KZ
variable {X : Nat × Nat → Prop} {h h' : HH} (k : KeepX X h h') (x3 : ¬ X (0, 3)) (x16 : ¬ X (1, 16))
theorem ZA.keep {z b : Nat} {d : ZS} (k : KeepX X h h') (x3 : ¬ X (0, 3)) (x16 : ¬ X (1, 16)) (Z : ZA h z b d) : ZA h' z b d := ⟨k.2.1 z _ Z.1 x3, k.2.1 b _ Z.2.1 x16, by rw [k.b]; exact Z.2.2.1, by rw [k.b]; exact Z.2.2.2⟩
theorem ZR.keep {z : Nat} {D : OD} (k : KeepX X h h') (x3 : ¬ X (0, 3)) (x16 : ¬ X (1, 16)) (Z : ZR h z D) : ZR h' z D := by
  obtain ⟨b, d, Z, r⟩ := Z
  exact ⟨b, d, Z.keep k x3 x16, r⟩
end KZ
theorem ZR.congr {h : HH} {z : Nat} {D E : OD} (Z : ZR h z D) (e : ∀ i, i < 16 → D i = E i) : ZR h z E := by
  obtain ⟨b, d, Z, r⟩ := Z
  exact ⟨b, d, Z, rep_congr r e⟩
def StR (n : Nat) (h : HH) (st : Nat) (s : Nat → Int32) : Prop := ∃ f, hF h st = some (.inl (0, 18, .inl f)) ∧ hB h ≤ st ∧ n ≤ st ∧ ∀ i, i < 18 → f i = s (84 + i)
def ShR (n : Nat) (h : HH) (sh : Nat) (s : Nat → Int32) : Prop := ∃ g, hF h sh = some (.inl (3, 4, .inr (.inr g))) ∧ hB h ≤ sh ∧ n ≤ sh ∧ ∀ k, k < 4 → (g k = none ∧ s (80 + k) = 0) ∨ ∃ z, g k = some z ∧ s (80 + k) = 1 ∧ ZR h z (Zs s (16 + 16 * k))
def LR (h : HH) (s : Nat → Int32) (l ln le mo : Nat) : Prop := hF h ln = some (.inr (4, [.int (s (103 + 9 * l)), .int (s (104 + 9 * l)), .ref le, .ref mo, .int (s (111 + 9 * l))])) ∧ (∃ f, hF h le = some (.inl (0, 3, .inl f)) ∧ ∀ c, c < 3 → f c = s (105 + 9 * l + c)) ∧ (∃ f, hF h mo = some (.inl (0, 3, .inl f)) ∧ ∀ c, c < 3 → f c = s (108 + 9 * l + c)) ∧ hB h ≤ ln ∧ hB h ≤ le ∧ hB h ≤ mo
/-- the lines: N of them, their list, where they and their arrays lie -/
def LiQ (n : Nat) (h : HH) (al : Nat) (s : Nat → Int32) (N ar cap : Nat) (q : Nat → Option Nat) (la le mo : Nat → Nat) : Prop := s 102 = I32 N ∧ N ≤ 10 ∧ AL h al ar cap N q ∧ (∀ l, l < N → q l = some (la l) ∧ LR h s l (la l) (le l) (mo l)) ∧ (∀ l, l < N → ∀ l', l' < N → l ≠ l' → la l ≠ la l' ∧ le l ≠ le l' ∧ mo l ≠ mo l') ∧ (∀ l, l < N → ∀ l', l' < N → le l ≠ mo l') ∧ n ≤ al ∧ (cap ≠ 0 → n ≤ ar) ∧ ∀ l, l < N → n ≤ la l ∧ n ≤ le l ∧ n ≤ mo l
def LiR (n : Nat) (h : HH) (al : Nat) (s : Nat → Int32) : Prop := ∃ (N ar cap : Nat) (q : Nat → Option Nat) (la le mo : Nat → Nat), LiQ n h al s N ar cap q la le mo
/-- a desk of which all cells of its own lie at n or behind -/
def DR (n : Nat) (h : HH) (t : Nat) (s : Nat → Int32) : Prop := ∃ st al sh z, DC h t st al sh z (s 193) ∧ n ≤ t ∧ ZR h z (Zs s 0) ∧ StR n h st s ∧ ShR n h sh s ∧ LiR n h al s
def agr (s s' : Nat → Int32) : Prop := ∀ i, 16 ≤ i → i < 193 → s' i = s i
theorem Zs_congr {s s' : Nat → Int32} {o o' : Nat} (e : ∀ i, i < 16 → s' (o' + i) = s (o + i)) : ∀ i, i < 16 → Zs s o i = Zs s' o' i := fun i hi => by
  unfold Zs
  rw [e i hi]
section KP
variable {X : Nat × Nat → Prop} {h h' : HH} {s s' : Nat → Int32} {n : Nat}
theorem StR.keep {st : Nat} (k : KeepX X h h') (x : ¬ X (1, 18)) (a : ∀ i, 84 ≤ i → i < 102 → s' i = s i) (R : StR n h st s) : StR n h' st s' := by
  obtain ⟨f, e, hb, hn, q⟩ := R
  exact ⟨f, k.2.1 _ _ e x, by rw [k.b]; exact hb, hn, fun i hi => by rw [a _ (by omega) (by omega)]; exact q i hi⟩
theorem ShR.keep {sh : Nat} (k : KeepX X h h') (x : ¬ X (4, 4)) (x3 : ¬ X (0, 3)) (x16 : ¬ X (1, 16)) (a : ∀ i, 16 ≤ i → i < 84 → s' i = s i) (R : ShR n h sh s) : ShR n h' sh s' := by
  obtain ⟨g, e, hb, hn, q⟩ := R
  refine ⟨g, k.2.1 _ _ e x, by rw [k.b]; exact hb, hn, fun i hi => ?_⟩
  rw [a _ (by omega) (by omega)]
  rcases q i hi with q | ⟨z, q1, q2, q3⟩
  · exact Or.inl q
  · exact Or.inr ⟨z, q1, q2, (q3.keep k x3 x16).congr (Zs_congr (fun j hj => a _ (by omega) (by omega)))⟩
theorem LR.keep {l ln le mo : Nat} (k : KeepX X h h') (x4 : ¬ X (0, 4)) (x : ¬ X (1, 3)) (hl : l < 10) (a : ∀ i, 103 ≤ i → i < 193 → s' i = s i) (R : LR h s l ln le mo) : LR h' s' l ln le mo := by
  obtain ⟨e1, ⟨f, e2, q2⟩, ⟨g, e3, q3⟩, b1, b2, b3⟩ := R
  refine ⟨?_, ⟨f, k.2.1 _ _ e2 x, fun c hc => by rw [a _ (by omega) (by omega)]; exact q2 c hc⟩, ⟨g, k.2.1 _ _ e3 x, fun c hc => by rw [a _ (by omega) (by omega)]; exact q3 c hc⟩, by rw [k.b]; exact b1, by rw [k.b]; exact b2, by rw [k.b]; exact b3⟩
  rw [a (103 + 9 * l) (by omega) (by omega), a (104 + 9 * l) (by omega) (by omega), a (111 + 9 * l) (by omega) (by omega)]
  exact k.2.1 _ _ e1 x4
theorem AL.keep {al ar cap N : Nat} {q : Nat → Option Nat} (k : KeepX X h h') (x8 : ¬ X (0, 8)) (x : ∀ n, n ∈ capL → ¬ X (3, n)) (A : AL h al ar cap N q) : AL h' al ar cap N q := by
  obtain ⟨⟨mc, C⟩, hb, R, hNc, hcap, h0, hr, hok⟩ := A
  exact ⟨⟨mc, k.2.1 _ _ C x8⟩, by rw [k.b]; exact hb, k.2.1 _ _ R (x cap hcap), hNc, hcap, fun z => by rw [hSa_of k.1]; exact h0 z, fun z => by rw [k.b]; exact hr z, fun i hi => okstH_keep k.b (fun a fs c e => k.2.2 a c fs e) (hok i hi)⟩
theorem LiR.keep {al : Nat} (k : KeepX X h h') (x8 : ¬ X (0, 8)) (x2 : ∀ n, n ∈ capL → ¬ X (3, n)) (x4 : ¬ X (0, 4)) (x : ¬ X (1, 3)) (a : ∀ i, 102 ≤ i → i < 193 → s' i = s i) (R : LiR n h al s) : LiR n h' al s' := by
  obtain ⟨N, ar, cap, q, la, le, mo, e1, e2, A, L, r⟩ := R
  exact ⟨N, ar, cap, q, la, le, mo, by rw [a 102 (by omega) (by omega)]; exact e1, e2, A.keep k x8 x2, fun l hl => ⟨(L l hl).1, (L l hl).2.keep k x4 x (by omega) (fun i hi1 hi2 => a i (by omega) hi2)⟩, r⟩
end KP
theorem DR.mono {n n' : Nat} {h : HH} {t : Nat} {s : Nat → Int32} (hn : n' ≤ n) (R : DR n h t s) : DR n' h t s := by
  obtain ⟨st, al, sh, z, C, ht, Z, ⟨f, s1, s2, s3, s4⟩, ⟨g, h1, h2, h3, h4⟩, ⟨N, ar, cap, q, la, le, mo, e1, e2, A, L, i1, i2, o1, o2, o3⟩⟩ := R
  exact ⟨st, al, sh, z, C, by omega, Z, ⟨f, s1, s2, by omega, s4⟩, ⟨g, h1, h2, by omega, h4⟩, ⟨N, ar, cap, q, la, le, mo, e1, e2, A, L, i1, i2, by omega, fun z => Nat.le_trans hn (o2 z), fun l hl => ⟨Nat.le_trans hn (o3 l hl).1, Nat.le_trans hn (o3 l hl).2.1, Nat.le_trans hn (o3 l hl).2.2⟩⟩⟩
/-- all cells are kept -/
theorem DR.gr {n : Nat} {h h' : HH} {t c k : Nat} {s : Nat → Int32} (o : OKH h) (g : Gr (fun a => a < hSz h) c k h h') (R : DR n h t s) : DR n h' t s := by
  obtain ⟨st, al, sh, z, C, ht, Z, S, H, L⟩ := R
  have kx : KeepX (fun _ => False) h h' := KeepX.gr o g
  exact ⟨st, al, sh, z, C.gr g (o.lt C.1), ht, Z.keep kx id id, S.keep kx id (fun _ _ _ => rfl), H.keep kx id id id (fun _ _ _ => rfl), L.keep kx id (fun _ _ => id) id id (fun _ _ _ => rfl)⟩
/-- the desk behind an act on its zone -/
theorem DR.zone {n : Nat} {h h' : HH} {t c k st al sh z : Nat} {s s' : Nat → Int32} {w : Int32} {E : OD} (o : OKH h) (g : Gr (Pt h t) c k h h') {z0 : Nat} {w0 : Int32} (C0 : DC h t st al sh z0 w0) (ht : n ≤ t) (S : StR n h st s) (H : ShR n h sh s) (L : LiR n h al s) (C : DC h' t st al sh z w) (Z : ZR h' z E) (e1 : ∀ i, i < 16 → E i = Zs s' 0 i) (e2 : s' 193 = w) (a : agr s s') : DR n h' t s' := by
  have kx : KeepX (fun k => k = (0, 2)) h h' := KeepX.one o g C0.1 C.1 rfl rfl
  exact ⟨st, al, sh, z, by rw [e2]; exact C, ht, Z.congr e1, S.keep kx (by decide) (fun i h1 h2 => a i (by omega) (by omega)), H.keep kx (by decide) (by decide) (by decide) (fun i h1 h2 => a i (by omega) (by omega)), L.keep kx (by decide) (fun n _ z => by cases z) (by decide) (by decide) (fun i h1 h2 => a i (by omega) h2)⟩
