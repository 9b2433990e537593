/-! conditions on arguments, on both sides -/
theorem in_fl (a lo hi : Int32) : fl (F_X4_in a lo hi) (lo.toInt ≤ a.toInt ∧ a.toInt ≤ hi.toInt) := by
  unfold F_X4_in
  by_cases h1 : a < lo
  · rw [if_pos h1]
    exact Or.inr ⟨rfl, fun q => by have := Int32.lt_iff_toInt_lt.mp h1; omega⟩
  · rw [if_neg h1]
    have n1 : lo.toInt ≤ a.toInt := Int.not_lt.mp fun q => h1 (Int32.lt_iff_toInt_lt.mpr q)
    by_cases h2 : hi < a
    · rw [if_pos h2]
      exact Or.inr ⟨rfl, fun q => by have := Int32.lt_iff_toInt_lt.mp h2; omega⟩
    · rw [if_neg h2]
      have n2 : a.toInt ≤ hi.toInt := Int.not_lt.mp fun q => h2 (Int32.lt_iff_toInt_lt.mpr q)
      exact Or.inl ⟨rfl, n1, n2⟩
theorem lt64 (a b : Int32) : a.toInt64 < b.toInt64 ↔ a < b := by
  rw [Int64.lt_iff_toInt_lt, Int32.toInt_toInt64, Int32.toInt_toInt64, Int32.lt_iff_toInt_lt]
theorem between_in (a lo hi : Int32) : F_X1_isBetween a.toInt64 lo.toInt64 hi.toInt64 = F_X4_in a lo hi := by
  unfold F_X1_isBetween F_X4_in
  simp only [lg_cmp_lt, lg_cmp_gt, lt64]
theorem isClock_in (a : Int32) : F_X1_isClock a = F_X4_isClock a := between_in a 0 2
theorem isShelf_in (a : Int32) : F_X1_isShelf a = F_X4_isSlot a := between_in a 0 3
theorem isHarbour_in (a : Int32) : F_X1_isHarbour a = F_X4_isHarbour a := between_in a 0 5
theorem arePair_in (a b : Int32) : F_X1_arePair a b = F_X4_arePair a b := by
  unfold F_X1_arePair F_X4_arePair
  rw [show F_X1_isBetween a.toInt64 0 3 = F_X4_in a 0 3 from between_in a 0 3, show F_X1_isBetween b.toInt64 0 3 = F_X4_in b 0 3 from between_in b 0 3]
theorem fl_if0 {x y : Int32} {P Q : Prop} (h1 : fl x P) (h2 : P → fl y Q) : fl (if x = 0 then (0 : Int32) else y) (P ∧ Q) := by
  rcases h1 with ⟨rfl, p⟩ | ⟨rfl, p⟩
  · rw [if_neg (by decide)]
    rcases h2 p with ⟨rfl, q⟩ | ⟨rfl, q⟩
    · exact Or.inl ⟨rfl, p, q⟩
    · exact Or.inr ⟨rfl, fun z => q z.2⟩
  · rw [if_pos rfl]
    exact Or.inr ⟨rfl, fun z => p z.1⟩
theorem fl_id {x : Int32} {P : Prop} (h : fl x P) : (if x = 0 then (0 : Int32) else (1 : Int32)) = x := by
  rcases h with ⟨rfl, p⟩ | ⟨rfl, p⟩ <;> decide
theorem nat_of {a : Int32} {n : Nat} (h0 : 0 ≤ a.toInt) (h1 : a.toInt ≤ n) (hn : n ≤ 20000) : ∃ i, i ≤ n ∧ a = I32 i := ⟨a.toInt.toNat, by omega, Int32.toInt_inj.mp (by
  rw [show (I32 a.toInt.toNat).toInt = (a.toInt.toNat : Int) from Int32.toInt_ofNat_of_lt (by omega)]
  omega)⟩
theorem i32t {n : Nat} (h : n ≤ 20000) : (I32 n).toInt = (n : Int) := Int32.toInt_ofNat_of_lt (by omega)
def isP (a b : Int32) : Prop := ∃ i j, i < 4 ∧ j < 4 ∧ i ≠ j ∧ a = I32 i ∧ b = I32 j
def isC (n : Nat) (a : Int32) : Prop := ∃ i, i ≤ n ∧ a = I32 i
theorem in0_fl (a : Int32) {n : Nat} (hn : n ≤ 20000) : fl (F_X4_in a 0 (I32 n)) (isC n a) := fl_congr (in_fl a 0 (I32 n)) ⟨fun h => by
  obtain ⟨i, h1, h2⟩ := nat_of (n := n) h.1 (by have := h.2; rw [i32t hn] at this; exact this) hn
  exact ⟨i, h1, h2⟩, fun ⟨i, h1, h2⟩ => by
  subst h2
  rw [i32t (by omega), i32t hn]
  have z0 : (0 : Int32).toInt = 0 := rfl
  omega⟩
theorem arePair_fl (a b : Int32) : fl (F_X4_arePair a b) (isP a b) := by
  unfold F_X4_arePair
  refine fl_congr (fl_if0 (in0_fl a (n := 3) (by decide)) (fun _ => fl_if0 (in0_fl b (n := 3) (by decide)) (fun _ => fl_neg (c := a = b)))) ⟨fun ⟨⟨i, hi, ea⟩, ⟨j, hj, eb⟩, n⟩ => ⟨i, j, by omega, by omega, fun e => n (by rw [ea, eb, e]), ea, eb⟩, fun ⟨i, j, hi, hj, n, ea, eb⟩ => ⟨⟨i, by omega, ea⟩, ⟨j, by omega, eb⟩, fun e => n (i32inj (by omega) (by omega) (by rw [← ea, ← eb]; exact e))⟩⟩
theorem isClock_fl (a : Int32) : fl (F_X4_isClock a) (isC 2 a) := in0_fl a (by decide)
theorem isSlot_fl (a : Int32) : fl (F_X4_isSlot a) (isC 3 a) := in0_fl a (by decide)
theorem isHarbour_fl (a : Int32) : fl (F_X4_isHarbour a) (isC 5 a) := in0_fl a (by decide)
theorem thr_r {α β : Type} (v : α) (h : HH) (A : Nat × String → HH → Option β) (B : α → HH → Option β) : thr (some (.inr v, h)) A B = B v h := rfl
theorem thr_l {α β : Type} (q : Nat × String) (h : HH) (A : Nat × String → HH → Option β) (B : α → HH → Option β) : thr (some (.inl q, h)) A B = A q h := rfl
theorem b2_s {α β : Type} (v : α) (h : HH) (f : α → HH → Option β) : b2 (some (v, h)) f = f v h := rfl
theorem pb2_s {α β σ : Type} (v : α) (h : σ) (f : α → σ → Option β) : pb2 (some (v, h)) f = f v h := rfl
def refC : String := "FerryClocks$Refused"
def Ref {α : Type} (res : (Nat × String) ⊕ α) (h' : HH) (k : Int32) : Prop := ∃ q, res = .inl (q, "FerryClocks$Refused") ∧ hF h' q = some (.inr (7, [.int k]))
theorem need_t {c k : Int32} {h : HH} (n : c ≠ 0) : F_X1_need c k h = some (.inr (), h) := by
  unfold F_X1_need
  rw [if_neg n]
theorem need_f {c k : Int32} {h : HH} (n : c = 0) (o : OKH h) (r : Rm 1 7 h) : F_X1_need c k h = some (.inl (hSz h, "FerryClocks$Refused"), hpush h (.inr (7, [.int k])) 7) := by
  unfold F_X1_need F_X6_init
  have r2 : hSz h + 1 ≤ hLim h ∧ hSl h + 7 ≤ hSlim h := r
  rw [if_pos n, if_pos r2, bind_some9]
  unfold thrO
  rw [v_isO (hF_push_eq _ _ _)]
  exact if_pos o.2
/-- the argument check of an order: either it is refused, or it goes on -/
theorem need_cases {c k : Int32} {h : HH} {P : Prop} (f : fl c P) (o : OKH h) (r : Rm 1 7 h) : (¬ P ∧ F_X1_need c k h = some (.inl (hSz h, "FerryClocks$Refused"), hpush h (.inr (7, [.int k])) 7)) ∨ (P ∧ F_X1_need c k h = some (.inr (), h)) := by
  rcases f with ⟨e, p⟩ | ⟨e, p⟩
  · exact Or.inr ⟨p, need_t (by rw [e]; decide)⟩
  · exact Or.inl ⟨p, need_f e o r⟩
