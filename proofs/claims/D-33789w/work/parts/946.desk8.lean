/-! a new line; a desk once more -/
def mkL (h : HH) (x y r : Int32) (f g : Nat → Int32) : HH := hpush (hpush (hpush h (.inr (4, [.int x, .int y, .ref (hSz h + 1), .ref (hSz h + 2), .int r])) 5) (.inl (0, 3, .inl f)) 3) (.inl (0, 3, .inl g)) 3
section ML
variable {h : HH} (o : OKH h) (x y r : Int32) (f g : Nat → Int32)
theorem mkL_0 (h : HH) (x y r : Int32) (f g : Nat → Int32) : hF (mkL h x y r f g) (hSz h) = some (.inr (4, [.int x, .int y, .ref (hSz h + 1), .ref (hSz h + 2), .int r])) := by
  unfold mkL
  rw [hF_push_ne _ _ _ (show hSz h ≠ hSz h + 1 + 1 by omega), hF_push_ne _ _ _ (show hSz h ≠ hSz h + 1 by omega)]
  exact hF_push_eq _ _ _
theorem mkL_1 (h : HH) (x y r : Int32) (f g : Nat → Int32) : hF (mkL h x y r f g) (hSz h + 1) = some (.inl (0, 3, .inl f)) := by
  unfold mkL
  rw [hF_push_ne _ _ _ (show hSz h + 1 ≠ hSz h + 1 + 1 by omega)]
  exact hF_push_eq _ _ _
theorem mkL_2 (h : HH) (x y r : Int32) (f g : Nat → Int32) : hF (mkL h x y r f g) (hSz h + 2) = some (.inl (0, 3, .inl g)) := hF_push_eq _ _ _
theorem mkL_gr {P : Nat → Prop} (o : OKH h) (x y r : Int32) (f g : Nat → Int32) (hp : ∀ a, P a → a < hSz h) : Gr P 3 11 h (mkL h x y r f g) :=
  ((Gr.push o _ 5 (fun q => Nat.lt_irrefl _ (hp _ q))).tr (Gr.push (o.push _ 5) _ 3 (fun q => by
    have h1 : hSz h + 1 < hSz h := hp _ q
    omega))).tr (Gr.push ((o.push _ 5).push _ 3) _ 3 (fun q => by
    have h1 : hSz h + 1 + 1 < hSz h := hp _ q
    omega))
end ML
/-- the fields of an object that is new -/
theorem v_put0 {h : HH} (o : OKH h) {c k : Nat} {fs : List Value} {n : Nat} {v : Value} (hk : k < fs.length) : putV (hpush h (.inr (c, fs)) n) c k (some (hSz h)) v = some (hpush h (.inr (c, fs.set k v)) n) := by
  rw [v_putV (hF_push_eq _ _ _) hk o.2, hset_push_eq]
theorem v_put1 {h : HH} (o : OKH h) {c k : Nat} {fs : List Value} {n n1 : Nat} {e1 : AC} {v : Value} (hk : k < fs.length) : putV (hpush (hpush h (.inr (c, fs)) n) e1 n1) c k (some (hSz h)) v = some (hpush (hpush h (.inr (c, fs.set k v)) n) e1 n1) := by
  have h0 : hSz h ≠ hSz (hpush h (.inr (c, fs)) n) := (show hSz h ≠ hSz h + 1 by omega)
  have hp : putV (hpush (hpush h (.inr (c, fs)) n) e1 n1) c k (some (hSz h)) v = some (hset (hpush (hpush h (.inr (c, fs)) n) e1 n1) (hSz h) (.inr (c, fs.set k v))) := v_putV (by rw [hF_push_ne _ _ _ h0]; exact hF_push_eq _ _ _) hk o.2
  rw [hp, hset_push_ne h0, hset_push_eq]
theorem v_put2 {h : HH} (o : OKH h) {c k : Nat} {fs : List Value} {n n1 n2 : Nat} {e1 e2 : AC} {v : Value} (hk : k < fs.length) : putV (hpush (hpush (hpush h (.inr (c, fs)) n) e1 n1) e2 n2) c k (some (hSz h)) v = some (hpush (hpush (hpush h (.inr (c, fs.set k v)) n) e1 n1) e2 n2) := by
  have h0 : hSz h ≠ hSz (hpush h (.inr (c, fs)) n) := (show hSz h ≠ hSz h + 1 by omega)
  have h1 : hSz h ≠ hSz (hpush (hpush h (.inr (c, fs)) n) e1 n1) := (show hSz h ≠ hSz h + 1 + 1 by omega)
  have hp : putV (hpush (hpush (hpush h (.inr (c, fs)) n) e1 n1) e2 n2) c k (some (hSz h)) v = some (hset (hpush (hpush (hpush h (.inr (c, fs)) n) e1 n1) e2 n2) (hSz h) (.inr (c, fs.set k v))) := v_putV (by rw [hF_push_ne _ _ _ h1, hF_push_ne _ _ _ h0]; exact hF_push_eq _ _ _) hk o.2
  rw [hp, hset_push_ne h1, hset_push_ne h0, hset_push_eq]
theorem rm_push {h : HH} {c s k c' s' : Nat} {e : AC} (m : Rm c s h) (hc : c' + 1 ≤ c) (hs : s' + k ≤ s) : Rm c' s' (hpush h e k) := by
  obtain ⟨a, b⟩ := m
  exact ⟨by show hSz h + 1 + c' ≤ hLim h; omega, by show hSl h + k + s' ≤ hSlim h; omega⟩
def tens : Nat → Nat → Int32
  | 0 => fun _ => 0
  | j + 1 => upd (tens j) j 10
theorem l_new {h : HH} (o : OKH h) (m : Rm 3 11 h) (a1 a2 : Int32) : F_X5_init_2 (hSz h) a1 a2 (hpush h (.inr (4, [.int 0, .int 0, .null, .null, .int 0])) 5) = some (mkL h a1 a2 0 (fun _ => 0) (tens 3)) := by
  unfold F_X5_init_2
  rw [show nnl (some (hSz h)) = some (hSz h) from rfl, bind_some9, v_put0 o (by show 0 < 5; decide), bind_some9, v_put0 o (by show 1 < 5; decide), bind_some9]
  rw [v_newA (t := 0) (n := 3) (by decide) (by decide) (by decide) (rm_push m (by decide) (by decide)), bind_some9]
  rw [v_put1 o (by show 2 < 5; decide), bind_some9]
  rw [v_newA (t := 0) (n := 3) (by decide) (by decide) (by decide) (rm_push (rm_push m (c' := 2) (s' := 6) (by decide) (by decide)) (by decide) (by decide)), bind_some9]
  rw [v_put2 o (by show 3 < 5; decide), bind_some9]
  have L : lp (fun z => F_X5_init_2_B30 (hSz h) a1 a2 z.1 z.2) 100000 ((0 : Int32), mkL h a1 a2 0 (fun _ => 0) (tens 0)) = some (mkL h a1 a2 0 (fun _ => 0) (tens 3)) := by
    refine lp_for0 (fun j => (I32 j, mkL h a1 a2 0 (fun _ => 0) (tens j))) 3 (fun j hj => ?_) ?_ 100000 (by decide)
    · have h3 : ¬ (3 : Int32) ≤ I32 j := fun q => by
        rw [c3, i32le (by decide) (by omega)] at q
        omega
      show F_X5_init_2_B30 (hSz h) a1 a2 (I32 j) (mkL h a1 a2 0 (fun _ => 0) (tens j)) = _
      unfold F_X5_init_2_B30
      rw [if_neg h3, v_getR (mkL_0 _ _ _ _ _ _) rfl, bind_some9, v_astI (mkL_2 _ _ _ _ _ _) (ix_of j 3 hj (by decide)) (show hB h ≤ hSz h + 2 from Nat.le_trans o.2 (by omega)), bind_some9, zi4 j (by omega)]
      have e : hset (mkL h a1 a2 0 (fun _ => 0) (tens j)) (hSz h + 2) (.inl (0, 3, .inl (upd (tens j) j 10))) = mkL h a1 a2 0 (fun _ => 0) (tens (j + 1)) := hset_push_eq _ _ _ _
      rw [e]
    · show F_X5_init_2_B30 (hSz h) a1 a2 (I32 3) _ = _
      unfold F_X5_init_2_B30
      rw [if_pos (by decide)]
  exact (congrArg (fun x => Option.bind x some) L)
theorem l_copy {h : HH} (o : OKH h) (m : Rm 3 11 h) {s : Nat → Int32} {l ln le mo : Nat} (R : LR h s l ln le mo) : ∃ f g, F_X5_init (hSz h) (some ln) (hpush h (.inr (4, [.int 0, .int 0, .null, .null, .int 0])) 5) = some (mkL h (s (103 + 9 * l)) (s (104 + 9 * l)) (s (111 + 9 * l)) f g) ∧ (∀ c, c < 3 → f c = s (105 + 9 * l + c)) ∧ ∀ c, c < 3 → g c = s (108 + 9 * l + c) := by
  obtain ⟨X1, ⟨f, X2, f2⟩, ⟨g, X3, g3⟩, b1, b2, b3⟩ := R
  have Y : ∀ fs, hF (hpush h (.inr (4, fs)) 5) ln = some (.inr (4, [.int (s (103 + 9 * l)), .int (s (104 + 9 * l)), .ref le, .ref mo, .int (s (111 + 9 * l))])) := fun fs => by rw [hF_push_ne _ _ _ (o.ne X1)]; exact X1
  have Y2 : ∀ fs, hF (hpush h (.inr (4, fs)) 5) le = some (.inl (0, 3, .inl f)) := fun fs => by rw [hF_push_ne _ _ _ (o.ne X2)]; exact X2
  have Y1 : ∀ fs v, hF (hpush (hpush h (.inr (4, fs)) 5) v 3) ln = some (.inr (4, [.int (s (103 + 9 * l)), .int (s (104 + 9 * l)), .ref le, .ref mo, .int (s (111 + 9 * l))])) := fun fs v => by
    have := o.lt X1
    rw [hF_push_ne _ _ _ (show ln ≠ hSz h + 1 by omega)]
    exact Y fs
  have Y3 : ∀ fs v, hF (hpush (hpush h (.inr (4, fs)) 5) v 3) mo = some (.inl (0, 3, .inl g)) := fun fs v => by
    have := o.lt X3
    rw [hF_push_ne _ _ _ (show mo ≠ hSz h + 1 by omega), hF_push_ne _ _ _ (o.ne X3)]
    exact X3
  have Y4 : ∀ fs v w, hF (hpush (hpush (hpush h (.inr (4, fs)) 5) v 3) w 3) ln = some (.inr (4, [.int (s (103 + 9 * l)), .int (s (104 + 9 * l)), .ref le, .ref mo, .int (s (111 + 9 * l))])) := fun fs v w => by
    have := o.lt X1
    rw [hF_push_ne _ _ _ (show ln ≠ hSz h + 1 + 1 by omega)]
    exact Y1 fs v
  have k1 : ∀ fs, castA (hpush (hpush h (.inr (4, fs)) 5) (.inl (0, 3, .inl f)) 3) 0 (some (hSz (hpush h (.inr (4, fs)) 5))) = some () := fun fs => v_castA (hF_push_eq _ _ _) (Nat.le_succ_of_le o.2)
  have k2 : ∀ fs v, castA (hpush (hpush (hpush h (.inr (4, fs)) 5) v 3) (.inl (0, 3, .inl g)) 3) 0 (some (hSz (hpush (hpush h (.inr (4, fs)) 5) v 3))) = some () := fun fs v => v_castA (hF_push_eq _ _ _) (Nat.le_trans o.2 (show hSz h ≤ hSz h + 1 + 1 by omega))
  refine ⟨f, g, ?_, f2, g3⟩
  unfold F_X5_init
  rw [show nnl (some (hSz h)) = some (hSz h) from rfl, bind_some9, v_getI (Y _) rfl, bind_some9, v_put0 o (by show 0 < 5; decide), bind_some9, v_getI (Y _) rfl, bind_some9, v_put0 o (by show 1 < 5; decide), bind_some9, v_getR (Y _) rfl, bind_some9]
  rw [v_cloneA (Y2 _) b2 (rm_push m (by decide) (by decide)), bind_some9, k1, bind_some9, v_put1 o (by show 2 < 5; decide), bind_some9, v_getR (Y1 _ _) rfl, bind_some9]
  rw [v_cloneA (Y3 _ _) b3 (rm_push (rm_push m (c' := 2) (s' := 6) (by decide) (by decide)) (by decide) (by decide)), bind_some9, k2, bind_some9, v_put2 o (by show 3 < 5; decide), bind_some9, v_getI (Y4 _ _ _) rfl, bind_some9, v_put2 o (by show 4 < 5; decide), bind_some9]
  rfl
