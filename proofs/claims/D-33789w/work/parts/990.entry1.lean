/-! the heap at the law's start, as a list of cells behind the old ones -/
def LH (h0 : HH) (l : List AC) (s : Nat) : HH := (h0.1, hSz h0 + l.length, s, fun a => if a < hSz h0 then hF h0 a else l[a - hSz h0]?)
section LHS
variable {h0 : HH} {l : List AC} {s : Nat}
theorem lh_F {j : Nat} : hF (LH h0 l s) (hSz h0 + j) = l[j]? := by
  show (if hSz h0 + j < hSz h0 then _ else l[hSz h0 + j - hSz h0]?) = _
  rw [if_neg (by omega), Nat.add_sub_cancel_left]
theorem lh_low {a : Nat} (h : a < hSz h0) : hF (LH h0 l s) a = hF h0 a := if_pos h
theorem lh_push (e : AC) (n : Nat) : hpush (LH h0 l s) e n = LH h0 (l ++ [e]) (s + n) := by
  unfold hpush LH
  refine Prod.ext rfl (Prod.ext ?_ (Prod.ext rfl ?_))
  · show hSz h0 + l.length + 1 = hSz h0 + (l ++ [e]).length
    rw [List.length_append]
    rfl
  · funext a
    show va_up _ (hSz h0 + l.length) (some e) a = if a < hSz h0 then hF h0 a else (l ++ [e])[a - hSz h0]?
    unfold va_up
    by_cases h1 : a = hSz h0 + l.length
    · rw [if_pos h1, if_neg (by omega), h1, Nat.add_sub_cancel_left, List.getElem?_append_right (Nat.le_refl _), Nat.sub_self]
      rfl
    · rw [if_neg h1]
      by_cases h2 : a < hSz h0
      · simp only [h2, if_true]
      · simp only [h2, if_false]
        by_cases h3 : a - hSz h0 < l.length
        · rw [List.getElem?_append_left h3]
        · rw [List.getElem?_eq_none (by omega), List.getElem?_eq_none (by rw [List.length_append]; show l.length + 1 ≤ _; omega)]
theorem lh_set {j : Nat} (hj : j < l.length) (e : AC) : hset (LH h0 l s) (hSz h0 + j) e = LH h0 (l.set j e) s := by
  unfold hset LH
  refine Prod.ext rfl (Prod.ext ?_ (Prod.ext rfl ?_))
  · show hSz h0 + l.length = hSz h0 + (l.set j e).length
    rw [List.length_set]
  · funext a
    show va_up _ (hSz h0 + j) (some e) a = if a < hSz h0 then hF h0 a else (l.set j e)[a - hSz h0]?
    unfold va_up
    by_cases h1 : a = hSz h0 + j
    · rw [if_pos h1, if_neg (by omega), h1, Nat.add_sub_cancel_left, List.getElem?_set_self hj]
    · rw [if_neg h1]
      by_cases h2 : a < hSz h0
      · simp only [h2, if_true]
      · simp only [h2, if_false]
        rw [List.getElem?_set_ne (by omega)]
def EH (h0 : HH) : Prop := hLim h0 = hSz h0 + 1200048 ∧ hSlim h0 = 5501818 ∧ hB h0 = hSz h0
theorem lh_newO (E : EH h0) {c n : Nat} {fs : List Value} (h1 : l.length < 1000000) (h2 : s + n ≤ 5501818) : newO (LH h0 l s) c n fs = some (LH h0 (l ++ [.inr (c, fs)]) (s + n)) := by
  obtain ⟨hl, hs, hb⟩ := E
  unfold newO
  rw [if_pos, lh_push]
  refine ⟨?_, ?_⟩
  · show hSz h0 + l.length + 1 ≤ hLim h0
    omega
  · show s + n ≤ hSlim h0
    omega
theorem lh_newA (E : EH h0) {t n : Nat} {i : Int32} (hi : ¬ i < 0) (hn : i.toNatClampNeg = n) (h3 : n ≤ 1000000) (h1 : l.length < 1000000) (h2 : s + n ≤ 5501818) : newA (LH h0 l s) t i = some (LH h0 (l ++ [.inl (t, n, zeroA t)]) (s + n)) := by
  obtain ⟨hl, hs, hb⟩ := E
  rw [v_newA (n := n) hi hn h3, lh_push]
  refine ⟨?_, ?_⟩
  · show hSz h0 + l.length + 1 ≤ hLim h0
    omega
  · show s + n ≤ hSlim h0
    omega
theorem lh_put (E : EH h0) {j c k : Nat} {fs : List Value} {v : Value} (q : l[j]? = some (.inr (c, fs))) (hk : k < fs.length) : putV (LH h0 l s) c k (some (hSz h0 + j)) v = some (LH h0 (l.set j (.inr (c, fs.set k v))) s) := by
  obtain ⟨hl, hs, hb⟩ := E
  have hj : j < l.length := by
    by_cases z : j < l.length
    · exact z
    · rw [List.getElem?_eq_none (by omega)] at q
      cases q
  rw [v_putV (lh_F.trans q) hk (show hB h0 ≤ hSz h0 + j by omega), lh_set hj]
theorem lh_put2 (E : EH h0) {j c k : Nat} (fs : List Value) {v : Value} {l' : List AC} (q : l[j]? = some (.inr (c, fs))) (hk : k < fs.length) (e : l' = l.set j (.inr (c, fs.set k v))) : putV (LH h0 l s) c k (some (hSz h0 + j)) v = some (LH h0 l' s) := by
  rw [e]
  exact lh_put E q hk
theorem j2i (E : EH h0) {j : Nat} {x y z : Value} (q : l[j]? = some (.inr (8, [x, y, z]))) : F_J2_init (hSz h0 + j) (LH h0 l s) = some (LH h0 ((l.set j (.inr (8, [.int 0, y, z]))).set j (.inr (8, [.int 0, .ref (hSa h0 0), z]))) s) := by
  have hj : j < l.length := by
    by_cases w : j < l.length
    · exact w
    · rw [List.getElem?_eq_none (by omega)] at q
      cases q
  have e1 : putV (LH h0 l s) 8 0 (some (hSz h0 + j)) (.int (0 : Int32)) = some (LH h0 (l.set j (.inr (8, [.int 0, y, z]))) s) := lh_put E q (show (0 : Nat) < 3 by decide)
  have e2 : putV (LH h0 (l.set j (.inr (8, [.int 0, y, z]))) s) 8 1 (some (hSz h0 + j)) (va_rf (some (hSa (LH h0 l s) 0))) = some (LH h0 ((l.set j (.inr (8, [.int 0, y, z]))).set j (.inr (8, [.int 0, .ref (hSa h0 0), z]))) s) := lh_put E (List.getElem?_set_self hj) (show (1 : Nat) < 3 by decide)
  unfold F_J2_init F_J1_init F_J0_init
  simp only [nnl, bind_some9, e1, e2]
theorem j3i (E : EH h0) {j : Nat} {x y z : Value} (q : l[j]? = some (.inr (9, [x, y, z]))) (h1 : l.length < 1000) (h2 : s < 1000) : F_J3_init (hSz h0 + j) (LH h0 l s) = some (LH h0 ((l ++ ([.inl (2, 17, .inr (.inr fun _ => none))] : List AC)).set j (.inr (9, [.ref (hSz h0 + l.length), y, z]))) (s + 17)) := by
  have hj : j < l.length := by
    by_cases w : j < l.length
    · exact w
    · rw [List.getElem?_eq_none (by omega)] at q
      cases q
  have e1 : newA (LH h0 l s) 2 (17 : Int32) = some (LH h0 (l ++ ([.inl (2, 17, .inr (.inr fun _ => none))] : List AC)) (s + 17)) := lh_newA E (t := 2) (n := 17) (by decide) (by decide) (by decide) (by omega) (by omega)
  have e2 : putV (LH h0 (l ++ ([.inl (2, 17, .inr (.inr fun _ => none))] : List AC)) (s + 17)) 9 0 (some (hSz h0 + j)) (va_rf (some (hSz (LH h0 l s)))) = some (LH h0 ((l ++ ([.inl (2, 17, .inr (.inr fun _ => none))] : List AC)).set j (.inr (9, [.ref (hSz h0 + l.length), y, z]))) (s + 17)) := lh_put E ((List.getElem?_append_left hj).trans q) (show (0 : Nat) < 3 by decide)
  unfold F_J3_init F_J0_init
  simp only [nnl, bind_some9, e1, e2]
theorem j5i (E : EH h0) {j : Nat} {x y z w : Value} (q : l[j]? = some (.inr (10, [x, y, z, w]))) (h1 : l.length < 1000) (h2 : s < 1000) : F_J5_init (hSz h0 + j) (LH h0 l s) = some (LH h0 (((l ++ ([.inl (1, 16, .inl fun _ => 0)] : List AC)).set j (.inr (10, [.ref (hSz h0 + l.length), y, z, w]))).set j (.inr (10, [.ref (hSz h0 + l.length), .int 0, z, w]))) (s + 16)) := by
  have hj : j < l.length := by
    by_cases v : j < l.length
    · exact v
    · rw [List.getElem?_eq_none (by omega)] at q
      cases q
  have e1 : newA (LH h0 l s) 1 (16 : Int32) = some (LH h0 (l ++ ([.inl (1, 16, .inl fun _ => 0)] : List AC)) (s + 16)) := lh_newA E (t := 1) (n := 16) (by decide) (by decide) (by decide) (by omega) (by omega)
  have e2 : putV (LH h0 (l ++ ([.inl (1, 16, .inl fun _ => 0)] : List AC)) (s + 16)) 10 0 (some (hSz h0 + j)) (va_rf (some (hSz (LH h0 l s)))) = some (LH h0 ((l ++ ([.inl (1, 16, .inl fun _ => 0)] : List AC)).set j (.inr (10, [.ref (hSz h0 + l.length), y, z, w]))) (s + 16)) := lh_put E ((List.getElem?_append_left hj).trans q) (show (0 : Nat) < 4 by decide)
  have e3 : putV (LH h0 ((l ++ ([.inl (1, 16, .inl fun _ => 0)] : List AC)).set j (.inr (10, [.ref (hSz h0 + l.length), y, z, w]))) (s + 16)) 10 1 (some (hSz h0 + j)) (.int (0 : Int32)) = some (LH h0 (((l ++ ([.inl (1, 16, .inl fun _ => 0)] : List AC)).set j (.inr (10, [.ref (hSz h0 + l.length), y, z, w]))).set j (.inr (10, [.ref (hSz h0 + l.length), .int 0, z, w]))) (s + 16)) := lh_put E (List.getElem?_set_self (by rw [List.length_append]; omega)) (show (1 : Nat) < 4 by decide)
  unfold F_J5_init F_J4_init
  simp only [nnl, bind_some9]
  rw [if_neg (by decide), e1, bind_some9, e2, bind_some9, e3, bind_some9, bind_some9]
end LHS
