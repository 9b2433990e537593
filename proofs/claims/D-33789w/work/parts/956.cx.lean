/-! the component's object in the heap, against the model's state -/
/-- kinds that no desk has -/
def noD (X : Nat × Nat → Prop) : Prop := ¬ X (0, 2) ∧ ¬ X (0, 3) ∧ ¬ X (1, 16) ∧ ¬ X (1, 18) ∧ ¬ X (4, 4) ∧ ¬ X (0, 8) ∧ (∀ n, n ∈ capL → ¬ X (3, n)) ∧ ¬ X (0, 4) ∧ ¬ X (1, 3)
theorem DR.keepX {X : Nat × Nat → Prop} {n : Nat} {h h' : HH} {t : Nat} {s s' : Nat → Int32} (k : KeepX X h h') (x : noD X) (a : ∀ i, i < 194 → s' i = s i) (R : DR n h t s) : DR n h' t s' := by
  obtain ⟨st, al, sh, z, C, ht, Z, S, H, L⟩ := R
  obtain ⟨x1, x2, x3, x4, x5, x6, x7, x8, x9⟩ := x
  exact ⟨st, al, sh, z, ⟨by rw [a 193 (by omega)]; exact k.2.1 _ _ C.1 x1, by rw [k.b]; exact C.2⟩, ht, (Z.keep k x2 x3).congr (Zs_congr (fun i hi => a _ (by omega))), S.keep k x4 (fun i h1 h2 => a i (by omega)), H.keep k x5 x2 x3 (fun i h1 h2 => a i (by omega)), L.keep k x6 x7 x8 x9 (fun i h1 h2 => a i (by omega))⟩
theorem GoodS.congr {s s' : Nat → Int32} (G : GoodS s) (a : ∀ i, i < 194 → s' i = s i) : GoodS s' := by
  have e0 : ∀ i, i < 16 → s' (0 + i) = s (0 + i) := fun i hi => a _ (by omega)
  exact ⟨Zs_eq e0 G.1, G.2.1.congr (Zs_congr e0), G.2.2.1.congr (fun i h1 h2 => a i (by omega)), fun i hi => by rw [a _ (by omega)]; exact G.2.2.2.1 i hi, G.2.2.2.2.congr (fun i h1 h2 => a i (by omega))⟩
def KR (h : HH) (v : Value) (S : MS) : Prop := (S.2.1 3 = 0 ∧ v = .null) ∨ (S.2.1 3 = 1 ∧ ∃ kp, v = .ref kp ∧ DR 0 h kp (S.1 2) ∧ GoodS (S.1 2))
def HiQ (h : HH) (hi : Nat) (S : MS) (ea hd c : Nat) (q : Nat → Option Nat) : Prop := hF h hi = some (.inr (9, [.ref ea, .int (I32 hd), .int (I32 ((hd + c) % 17))])) ∧ hF h ea = some (.inl (2, 17, .inr (.inr q))) ∧ hB h ≤ hi ∧ hB h ≤ ea ∧ hd < 17 ∧ c ≤ 4 ∧ S.2.1 5 = I32 c ∧ ∀ i, i < c → ∃ d, q ((hd + i) % 17) = some d ∧ DR 0 h d (fun j => S.1 4 (194 * i + j)) ∧ GoodS (fun j => S.1 4 (194 * i + j))
def HiR (h : HH) (hi : Nat) (S : MS) : Prop := ∃ ea hd c q, HiQ h hi S ea hd c q
def txC : List Nat := [16, 34, 70]
def TxQ (h : HH) (tx : Nat) (S : MS) (va cap len : Nat) (ml : Int32) (b : Nat → Int32) : Prop := hF h tx = some (.inr (10, [.ref va, .int 0, .int ml, .int (I32 len)])) ∧ hF h va = some (.inl (1, cap, .inl b)) ∧ hB h ≤ tx ∧ hB h ≤ va ∧ len ≤ 60 ∧ len ≤ cap ∧ cap ∈ txC ∧ S.2.1 7 = I32 len ∧ ∀ i, i < len → b i = S.1 6 i ∧ 32 ≤ (S.1 6 i).toInt ∧ (S.1 6 i).toInt ≤ 126
def TxR (h : HH) (tx : Nat) (S : MS) : Prop := ∃ va cap len ml b, TxQ h tx S va cap len ml b
def CX (h : HH) (x : Nat) (S : MS) : Prop := ∃ dk kv hi tx, hF h x = some (.inr (0, [.ref dk, kv, .ref hi, .ref tx])) ∧ hB h ≤ x ∧ DR 0 h dk (S.1 0) ∧ GoodS (S.1 0) ∧ KR h kv S ∧ HiR h hi S ∧ TxR h tx S
/-- the model's state is the same one where it counts -/
def SM (S S' : MS) : Prop := (∀ i, i < 194 → S'.1 0 i = S.1 0 i) ∧ S'.1 2 = S.1 2 ∧ S'.1 4 = S.1 4 ∧ S'.1 6 = S.1 6 ∧ S'.2.1 3 = S.2.1 3 ∧ S'.2.1 5 = S.2.1 5 ∧ S'.2.1 7 = S.2.1 7
theorem SM.rf (S : MS) : SM S S := ⟨fun _ _ => rfl, rfl, rfl, rfl, rfl, rfl, rfl⟩
theorem SM.tr {S S1 S2 : MS} (a : SM S S1) (b : SM S1 S2) : SM S S2 := ⟨fun i hi => (b.1 i hi).trans (a.1 i hi), b.2.1.trans a.2.1, b.2.2.1.trans a.2.2.1, b.2.2.2.1.trans a.2.2.2.1, b.2.2.2.2.1.trans a.2.2.2.2.1, b.2.2.2.2.2.1.trans a.2.2.2.2.2.1, b.2.2.2.2.2.2.trans a.2.2.2.2.2.2⟩
section CK
variable {X : Nat × Nat → Prop} {h h' : HH} {S S' : MS}
theorem KR.keepX {v : Value} (k : KeepX X h h') (x : noD X) (e2 : S'.1 2 = S.1 2) (e3 : S'.2.1 3 = S.2.1 3) (R : KR h v S) : KR h' v S' := by
  rcases R with ⟨a, b⟩ | ⟨a, kp, b, c, d⟩
  · exact Or.inl ⟨e3.trans a, b⟩
  · exact Or.inr ⟨e3.trans a, kp, b, by rw [e2]; exact c.keepX k x (fun _ _ => rfl), by rw [e2]; exact d⟩
theorem HiR.keepX {hi : Nat} (k : KeepX X h h') (x : noD X) (x9 : ¬ X (0, 9)) (x17 : ¬ X (3, 17)) (e4 : S'.1 4 = S.1 4) (e5 : S'.2.1 5 = S.2.1 5) (R : HiR h hi S) : HiR h' hi S' := by
  obtain ⟨ea, hd, c, q, q1, q2, q3, q4, q5, q6, q7, q8⟩ := R
  refine ⟨ea, hd, c, q, k.2.1 _ _ q1 x9, k.2.1 _ _ q2 x17, by rw [k.b]; exact q3, by rw [k.b]; exact q4, q5, q6, e5.trans q7, fun i hi => ?_⟩
  obtain ⟨d, w1, w2, w3⟩ := q8 i hi
  exact ⟨d, w1, by rw [e4]; exact w2.keepX k x (fun _ _ => rfl), by rw [e4]; exact w3⟩
theorem TxR.keepX {tx : Nat} (k : KeepX X h h') (x10 : ¬ X (0, 10)) (xb : ∀ n, ¬ X (2, n)) (e6 : S'.1 6 = S.1 6) (e7 : S'.2.1 7 = S.2.1 7) (R : TxR h tx S) : TxR h' tx S' := by
  obtain ⟨va, cap, len, ml, b, q1, q2, q3, q4, q5, q6, q7, q8, q9⟩ := R
  exact ⟨va, cap, len, ml, b, k.2.1 _ _ q1 x10, k.2.1 _ _ q2 (xb cap), by rw [k.b]; exact q3, by rw [k.b]; exact q4, q5, q6, q7, e7.trans q8, by rw [e6]; exact q9⟩
theorem CX.keepX {x : Nat} (k : KeepX X h h') (nd : noD X) (x0 : ¬ X (0, 0)) (x9 : ¬ X (0, 9)) (x17 : ¬ X (3, 17)) (x10 : ¬ X (0, 10)) (xb : ∀ n, ¬ X (2, n)) (sm : SM S S') (R : CX h x S) : CX h' x S' := by
  obtain ⟨dk, kv, hi, tx, C, hb, D, G, K, H, T⟩ := R
  obtain ⟨a0, a2, a4, a6, i3, i5, i7⟩ := sm
  exact ⟨dk, kv, hi, tx, k.2.1 _ _ C x0, by rw [k.b]; exact hb, D.keepX k nd a0, G.congr a0, K.keepX k nd a2 i3, H.keepX k nd x9 x17 a4 i5, T.keepX k x10 xb a6 i7⟩
theorem noD_F : noD (fun _ => False) := ⟨id, id, id, id, id, id, fun _ _ => id, id, id⟩
/-- nothing old is written -/
theorem CX.gr {x c s : Nat} (o : OKH h) (g : Gr (fun a => a < hSz h) c s h h') (sm : SM S S') (R : CX h x S) : CX h' x S' := R.keepX (X := fun _ => False) (KeepX.gr o g) noD_F id id id id (fun _ => id) sm
end CK
/-! a step of the model leaves the component's cells as they are -/
def MKl : List (Nat × Nat) := [(0, 1), (1, 194), (1, 776), (1, 60), (1, 16), (1, 1936), (1, 121), (1, 7986)]
def KeepM (h h' : HH) : Prop := KeepX (fun k => k ∈ MKl) h h' ∧ ∀ a e, hF h a = some e → (a < hB h + 11 ∨ hB h + 25 ≤ a) → hF h' a = some e
section KM
variable {h h' : HH} (k : KeepM h h')
theorem ZR.keepM (k : KeepM h h') {z : Nat} {D : OD} (Z : ZR h z D) : ZR h' z D := by
  obtain ⟨b, d, Z, r⟩ := Z
  exact ⟨b, d, ⟨k.1.2.1 _ _ Z.1 (show ¬ ((0, 3) : Nat × Nat) ∈ MKl by decide), k.2 _ _ Z.2.1 Z.2.2.1.2, by rw [k.1.b]; exact Z.2.2.1, by rw [k.1.b]; exact Z.2.2.2⟩, r⟩
theorem DR.keepM (k : KeepM h h') {n t : Nat} {s : Nat → Int32} (R : DR n h t s) : DR n h' t s := by
  obtain ⟨st, al, sh, z, C, ht, Z, S, ⟨g, H, hb, hn, hs⟩, L⟩ := R
  refine ⟨st, al, sh, z, ⟨k.1.2.1 _ _ C.1 (show ¬ ((0, 2) : Nat × Nat) ∈ MKl by decide), by rw [k.1.b]; exact C.2⟩, ht, Z.keepM k, S.keep k.1 (by decide) (fun _ _ _ => rfl), ⟨g, k.1.2.1 _ _ H (show ¬ ((4, 4) : Nat × Nat) ∈ MKl by decide), by rw [k.1.b]; exact hb, hn, fun i hi => ?_⟩, L.keep k.1 (by decide) (fun n hn z => by
    have : ∀ n ∈ capL, ((3, n) : Nat × Nat) ∉ MKl := by decide
    exact this n hn z) (by decide) (by decide) (fun _ _ _ => rfl)⟩
  rcases hs i hi with q | ⟨zz, q1, q2, q3⟩
  · exact Or.inl q
  · exact Or.inr ⟨zz, q1, q2, q3.keepM k⟩
theorem CX.keepM (k : KeepM h h') {x : Nat} {S : MS} (R : CX h x S) : CX h' x S := by
  obtain ⟨dk, kv, hi, tx, C, hb, D, G, K, ⟨ea, hd, c, q, q1, q2, q3, q4, q5, q6, q7, q8⟩, ⟨va, cap, len, ml, b, t1, t2, t3, t4, t5, t6, t7, t8, t9⟩⟩ := R
  refine ⟨dk, kv, hi, tx, k.1.2.1 _ _ C (show ¬ ((0, 0) : Nat × Nat) ∈ MKl by decide), by rw [k.1.b]; exact hb, D.keepM k, G, ?_, ⟨ea, hd, c, q, k.1.2.1 _ _ q1 (show ¬ ((0, 9) : Nat × Nat) ∈ MKl by decide), k.1.2.1 _ _ q2 (show ¬ ((3, 17) : Nat × Nat) ∈ MKl by decide), by rw [k.1.b]; exact q3, by rw [k.1.b]; exact q4, q5, q6, q7, fun i hi => ?_⟩, ⟨va, cap, len, ml, b, k.1.2.1 _ _ t1 (show ¬ ((0, 10) : Nat × Nat) ∈ MKl by decide), k.1.2.1 _ _ t2 (by
    have : ∀ c ∈ txC, ((2, c) : Nat × Nat) ∉ MKl := by decide
    exact this cap t7), by rw [k.1.b]; exact t3, by rw [k.1.b]; exact t4, t5, t6, t7, t8, t9⟩⟩
  · rcases K with ⟨a, b⟩ | ⟨a, kp, b, c, d⟩
    · exact Or.inl ⟨a, b⟩
    · exact Or.inr ⟨a, kp, b, c.keepM k, d⟩
  · obtain ⟨d, w1, w2, w3⟩ := q8 i hi
    exact ⟨d, w1, w2.keepM k, w3⟩
theorem CX.sm {x : Nat} {S S' : MS} (o : OKH h) (sm : SM S S') (R : CX h x S) : CX h x S' := R.gr o (Gr.rf o) sm
end KM
/-! the history -/
theorem mod17 {a : Nat} (h : a < 17) : a % 17 = a := Nat.mod_eq_of_lt h
theorem inc17 : ∀ a, a < 17 → F_J3_inc (I32 a) (I32 17) = I32 ((a + 1) % 17) := by decide
theorem sub17 : ∀ a, a < 17 → ∀ c, c < 6 → F_J3_sub (I32 ((a + c) % 17)) (I32 a) (I32 17) = I32 c := by decide
theorem ne17 : ∀ a, a < 17 → ∀ c, c < 6 → I32 a = I32 ((a + (c + 1)) % 17) → False := by
  intro a ha c hc e
  have := i32inj (by omega) (by omega) e
  omega
/-- cells that a change writes -/
def XC : Nat × Nat → Prop := fun k => k = (0, 0) ∨ k = (0, 9) ∨ k = (3, 17) ∨ k = (0, 10) ∨ ∃ n, n ∈ txC ∧ k = (2, n)
theorem XC_noD : noD XC := by
  refine ⟨?_, ?_, ?_, ?_, ?_, ?_, fun n hn => ?_, ?_, ?_⟩
  case _ => intro h; rcases h with h | h | h | h | ⟨_, _, h⟩ <;> cases h
  case _ => intro h; rcases h with h | h | h | h | ⟨_, _, h⟩ <;> cases h
  case _ => intro h; rcases h with h | h | h | h | ⟨_, _, h⟩ <;> cases h
  case _ => intro h; rcases h with h | h | h | h | ⟨_, _, h⟩ <;> cases h
  case _ => intro h; rcases h with h | h | h | h | ⟨_, _, h⟩ <;> cases h
  case _ => intro h; rcases h with h | h | h | h | ⟨_, _, h⟩ <;> cases h
  case _ =>
    intro h
    rcases h with h | h | h | h | ⟨_, _, h⟩
    · cases h
    · cases h
    · have : n = 17 := congrArg Prod.snd h
      subst this
      exact absurd hn (by decide)
    · cases h
    · cases h
  case _ => intro h; rcases h with h | h | h | h | ⟨_, _, h⟩ <;> cases h
  case _ => intro h; rcases h with h | h | h | h | ⟨_, _, h⟩ <;> cases h
