/-! counting the moments of the box -/
def sumN (f : Nat → Nat) : Nat → Nat
  | 0 => 0
  | n + 1 => sumN f n + f n
theorem sumN_congr {f g : Nat → Nat} : ∀ {n : Nat}, (∀ k, k < n → f k = g k) → sumN f n = sumN g n
  | 0, _ => rfl
  | n + 1, h => by
    show sumN f n + f n = sumN g n + g n
    rw [sumN_congr (fun k hk => h k (by omega)), h n (by omega)]
theorem sumN_0 : ∀ n, sumN (fun _ => 0) n = 0
  | 0 => rfl
  | n + 1 => by
    show sumN (fun _ => 0) n + 0 = 0
    rw [sumN_0 n]
theorem sumN_add (f g : Nat → Nat) : ∀ n, sumN (fun k => f k + g k) n = sumN f n + sumN g n
  | 0 => rfl
  | n + 1 => by
    show sumN (fun k => f k + g k) n + (f n + g n) = (sumN f n + f n) + (sumN g n + g n)
    rw [sumN_add f g n]
    omega
theorem sumN_swap (g : Nat → Nat → Nat) (m : Nat) : ∀ n, sumN (fun a => sumN (fun b => g a b) m) n = sumN (fun b => sumN (fun a => g a b) n) m
  | 0 => (sumN_0 m).symm
  | n + 1 => by
    show sumN (fun a => sumN (fun b => g a b) m) n + sumN (fun b => g n b) m = sumN (fun b => sumN (fun a => g a b) n + g n b) m
    rw [sumN_swap g m n, sumN_add]
theorem sumN_app (f : Nat → Nat) (n : Nat) : ∀ m, sumN f (n + m) = sumN f n + sumN (fun k => f (n + k)) m
  | 0 => rfl
  | m + 1 => by
    show sumN f (n + m) + f (n + m) = sumN f n + (sumN (fun k => f (n + k)) m + f (n + m))
    rw [sumN_app f n m]
    omega
theorem sumN_block (f : Nat → Nat) (m : Nat) : ∀ n, sumN f (n * m) = sumN (fun a => sumN (fun b => f (a * m + b)) m) n
  | 0 => by rw [Nat.zero_mul]; rfl
  | n + 1 => by
    rw [Nat.succ_mul, sumN_app, sumN_block f m n]
    rfl
def T3 (w : Nat → Nat → Nat → Nat) : Nat := sumN (fun a => sumN (fun b => sumN (fun c => w a b c) 31) 31) 31
def lin (w : Nat → Nat → Nat → Nat) (k : Nat) : Nat := w (k % 31) (k / 31 % 31) (k / 31 / 31 % 31)
theorem lin_T (w : Nat → Nat → Nat → Nat) : sumN (lin w) 29791 = T3 w := by
  have e1 : sumN (lin w) 29791 = sumN (fun p => sumN (fun a => w a (p % 31) (p / 31 % 31)) 31) 961 := by
    rw [show (29791 : Nat) = 961 * 31 from rfl, sumN_block]
    refine sumN_congr (fun p hp => sumN_congr (fun a ha => ?_))
    unfold lin
    rw [show (p * 31 + a) % 31 = a by omega, show (p * 31 + a) / 31 = p by omega]
  have e2 : sumN (fun p => sumN (fun a => w a (p % 31) (p / 31 % 31)) 31) 961 = sumN (fun c => sumN (fun b => sumN (fun a => w a b c) 31) 31) 31 := by
    rw [show (961 : Nat) = 31 * 31 from rfl, sumN_block]
    refine sumN_congr (fun c hc => sumN_congr (fun b hb => ?_))
    show sumN (fun a => w a ((c * 31 + b) % 31) ((c * 31 + b) / 31 % 31)) 31 = _
    rw [show (c * 31 + b) % 31 = b by omega, show (c * 31 + b) / 31 % 31 = c by omega]
  rw [e1, e2]
  unfold T3
  rw [sumN_swap (fun c b => sumN (fun a => w a b c) 31)]
  have e3 : sumN (fun b => sumN (fun c => sumN (fun a => w a b c) 31) 31) 31 = sumN (fun b => sumN (fun a => sumN (fun c => w a b c) 31) 31) 31 := sumN_congr (fun b _ => sumN_swap (fun c a => w a b c) 31 31)
  rw [e3, sumN_swap (fun b a => sumN (fun c => w a b c) 31)]
def mo (a b c : Nat) : Nat → Int := yv (fun i => if i = 0 then I32 a else if i = 1 then I32 b else I32 c)
theorem sat_cg {D : OD} {x y : Nat → Int} (h : ∀ i, i < 4 → x i = y i) : sat D x ↔ sat D y := by
  unfold sat
  refine ⟨fun s i hi j hj t ht => ?_, fun s i hi j hj t ht => ?_⟩
  · rw [← h i hi, ← h j hj]
    exact s i hi j hj t ht
  · rw [h i hi, h j hj]
    exact s i hi j hj t ht
noncomputable def cw (D : OD) (E : Option OD) (a b c : Nat) : Nat := if bq (sat D (mo a b c) ∧ ∀ e, E = some e → ¬ sat e (mo a b c)) then 1 else 0
def crd (cl a b c : Nat) : Nat := if cl = 0 then a else if cl = 1 then b else c
noncomputable def sw (D : OD) (E : Option OD) (cl a b c : Nat) : Nat := if bq (sat D (mo a b c) ∧ ∀ e, E = some e → ¬ sat e (mo a b c)) then crd cl a b c else 0
def dg (k : Nat) : Nat → Nat
  | 0 => k
  | n + 1 => dg k n / 31
section Q7
variable {X : HH} {z bz a : Nat} {d : ZS} {D : OD} {f : Nat → Int32}
theorem dg_le (k : Nat) : ∀ n, dg k n ≤ k
  | 0 => Nat.le_refl _
  | n + 1 => Nat.le_trans (Nat.div_le_self _ _) (dg_le k n)
theorem z_decodes {k : Nat} (hk : k < 29791) (A : hF X a = some (.inl (0, 3, .inl f))) (hb : hB X ≤ a) : ∃ f', F_X3_decodes (I32 k) (some a) X = some (hset X a (.inl (0, 3, .inl f'))) ∧ ∀ c, c < 3 → f' c = I32 (dg k c % 31) := by
  obtain ⟨r, e, f', e2, hf⟩ := lp_inv0 (B := fun y => F_X3_decodes_B4 (I32 k) (some a) y.1 y.2.1 y.2.2) (Q := fun r => ∃ f', r = hset X a (.inl (0, 3, .inl f')) ∧ ∀ c, c < 3 → f' c = I32 (dg k c % 31)) (fuel := 100000) (x := (I32 k, (0 : Int32), X)) (fun i y => y.1 = I32 (dg k i) ∧ y.2.1 = I32 i ∧ ∃ f', y.2.2 = hset X a (.inl (0, 3, .inl f')) ∧ ∀ c, c < i → f' c = I32 (dg k c % 31)) 3 (fun i hi y hy => by
    obtain ⟨x, ii, Y⟩ := y
    obtain ⟨e1, e2, f1, e3, hf1⟩ := hy
    have e1 : x = I32 (dg k i) := e1
    have e2 : ii = I32 i := e2
    have e3 : Y = hset X a (.inl (0, 3, .inl f1)) := e3
    subst e1
    subst e2
    subst e3
    have hd := dg_le k i
    refine ⟨(I32 (dg k (i + 1)), I32 (i + 1), hset X a (.inl (0, 3, .inl (upd f1 i (I32 (dg k i % 31)))))), ?_, rfl, rfl, _, rfl, fun c hc => ?_⟩
    · show F_X3_decodes_B4 (I32 k) (some a) (I32 (dg k i)) (I32 i) (hset X a _) = _
      unfold F_X3_decodes_B4
      rw [if_neg (nge3 hi), show I32 (dg k i) - I32 (dg k i) / (31 : Int32) * (31 : Int32) = I32 (dg k i % 31) from big_mod (k := 31) (by omega) (by decide) (by decide), v_astI (hF_set_eq _ _ _) (ix_of i 3 hi (by decide)) hb, bind_some9, hset_set, i32s i (by omega), show I32 (dg k i) / (31 : Int32) = I32 (dg k i / 31) from big_div (k := 31) (by omega) (by decide) (by decide)]
      rfl
    · unfold upd
      by_cases q : c = i
      · rw [if_pos q, q]
      · rw [if_neg q]
        exact hf1 c (by omega)) (fun y hy => by
    obtain ⟨x, ii, Y⟩ := y
    obtain ⟨e1, e2, f1, e3, hf1⟩ := hy
    have e2 : ii = I32 3 := e2
    have e3 : Y = hset X a (.inl (0, 3, .inl f1)) := e3
    subst e2
    subst e3
    refine ⟨_, ?_, f1, rfl, hf1⟩
    show F_X3_decodes_B4 (I32 k) (some a) x (I32 3) _ = _
    unfold F_X3_decodes_B4
    exact if_pos (by decide)) ⟨rfl, rfl, f, (hset_self A).symm, fun c hc => absurd hc (Nat.not_lt_zero c)⟩ (by decide)
  refine ⟨f', ?_, hf⟩
  unfold F_X3_decodes
  rw [e, bind_some9, e2]
theorem dg_mo {k : Nat} {f' : Nat → Int32} (hf : ∀ c, c < 3 → f' c = I32 (dg k c % 31)) : (∀ i, i < 4 → yv f' i = mo (k % 31) (k / 31 % 31) (k / 31 / 31 % 31) i) ∧ ∀ c, c < 3 → -9 ≤ (f' c).toInt ∧ (f' c).toInt ≤ 5000 := by
  refine ⟨fun i hi => ?_, fun c hc => ?_⟩
  · unfold mo yv
    rcases or4 hi with rfl | rfl | rfl | rfl
    · rw [if_neg (by decide), if_neg (by decide), hf 0 (by decide)]
      show (I32 (dg k 0 % 31)).toInt = (if (0 : Nat) = 0 then I32 (k % 31) else if (0 : Nat) = 1 then I32 (k / 31 % 31) else I32 (k / 31 / 31 % 31)).toInt
      rw [if_pos rfl, show dg k 0 = k from rfl]
    · rw [if_neg (by decide), if_neg (by decide), hf 1 (by decide)]
      show (I32 (dg k 1 % 31)).toInt = (if (1 : Nat) = 0 then I32 (k % 31) else if (1 : Nat) = 1 then I32 (k / 31 % 31) else I32 (k / 31 / 31 % 31)).toInt
      rw [if_neg (by decide), if_pos rfl, show dg k 1 = k / 31 from rfl]
    · rw [if_neg (by decide), if_neg (by decide), hf 2 (by decide)]
      show (I32 (dg k 2 % 31)).toInt = (if (2 : Nat) = 0 then I32 (k % 31) else if (2 : Nat) = 1 then I32 (k / 31 % 31) else I32 (k / 31 / 31 % 31)).toInt
      rw [if_neg (by decide), if_neg (by decide), show dg k 2 = k / 31 / 31 from rfl]
    · rw [if_pos rfl, if_pos rfl]
  · rw [hf c hc, big_t (by omega)]
    omega
/-- zones on which a count looks -/
def OZ (h : HH) (a1 : Option Nat) (E : Option OD) : Prop := (a1 = none ∧ E = none) ∨ ∃ zk bk dk Dk, a1 = some zk ∧ E = some Dk ∧ ZA h zk bk dk ∧ rep 9999 dk Dk
theorem ne29791 {k : Nat} (hk : k < 29791) : ¬ (29791 : Int32) ≤ I32 k := fun q => by
  have := (big_le (n := 29791) (k := k) (by decide) (by omega)).mp q
  omega
theorem i32sB (k : Nat) : I32 k + (1 : Int32) = I32 (k + 1) := big_add k 1
variable {h : HH}
theorem arr_ok (o : OKH h) (f : Nat → Int32) : Gr (fun p => p < hSz h) 1 3 h (hset (hpush h (.inl (0, 3, .inl fun _ => 0)) 3) (hSz h) (.inl (0, 3, .inl f))) := by
  rw [hset_push_eq]
  exact Gr.push o _ _ (Nat.lt_irrefl _)
theorem z_count {a1 : Option Nat} {E : Option OD} (o : OKH h) (Z : ZA h z bz d) (r : rep 9999 d D) (hE : OZ h a1 E) (m : Rm 1 3 h) : ∃ f, F_X3_count z a1 h = some (I32 (T3 (cw D E)), hset (hpush h (.inl (0, 3, .inl fun _ => 0)) 3) (hSz h) (.inl (0, 3, .inl f))) := by
  obtain ⟨r', e, f, e2⟩ := lp_inv0 (B := fun y => F_X3_count_B9 z a1 (some (hSz h)) y.1 y.2.1 y.2.2) (Q := fun r => ∃ f, r = (I32 (T3 (cw D E)), hset (hpush h (.inl (0, 3, .inl fun _ => 0)) 3) (hSz h) (.inl (0, 3, .inl f)))) (fuel := 100000) (x := ((0 : Int32), (0 : Int32), hpush h (.inl (0, 3, .inl fun _ => 0)) 3)) (fun k y => y.1 = I32 (sumN (lin (cw D E)) k) ∧ y.2.1 = I32 k ∧ ∃ f, y.2.2 = hset (hpush h (.inl (0, 3, .inl fun _ => 0)) 3) (hSz h) (.inl (0, 3, .inl f))) 29791 (fun k hk y hy => by
    obtain ⟨x, kk, Y⟩ := y
    obtain ⟨e1, e2, f1, e3⟩ := hy
    have e1 : x = I32 (sumN (lin (cw D E)) k) := e1
    have e2 : kk = I32 k := e2
    have e4 : Y = hset (hpush h (.inl (0, 3, .inl fun _ => 0)) 3) (hSz h) (.inl (0, 3, .inl f1)) := e3
    clear e3
    subst e1
    subst e2
    have gY : Gr (fun p => p < hSz h) 1 3 h Y := by rw [e4]; exact arr_ok o f1
    have AY : hF Y (hSz h) = some (.inl (0, 3, .inl f1)) := by rw [e4]; exact hF_set_eq _ _ _
    obtain ⟨f', ef, hf'⟩ := z_decodes hk AY (by rw [gY.b]; exact o.2)
    have eY : hset Y (hSz h) (.inl (0, 3, .inl f')) = hset (hpush h (.inl (0, 3, .inl fun _ => 0)) 3) (hSz h) (.inl (0, 3, .inl f')) := by rw [e4, hset_set]
    have gY2 := arr_ok o f'
    have Z2 := Z.gr gY2 (o.lt Z.1) (o.lt Z.2.1)
    have A2 : hF (hset (hpush h (.inl (0, 3, .inl fun _ => 0)) 3) (hSz h) (.inl (0, 3, .inl f'))) (hSz h) = some (.inl (0, 3, .inl f')) := hF_set_eq _ _ _
    obtain ⟨q1, q2⟩ := dg_mo hf'
    obtain ⟨v, ev, fv⟩ := z_has Z2 r A2 q2
    have sv := sat_cg (D := D) q1
    refine ⟨(I32 (sumN (lin (cw D E)) (k + 1)), I32 (k + 1), hset (hpush h (.inl (0, 3, .inl fun _ => 0)) 3) (hSz h) (.inl (0, 3, .inl f'))), ?_, rfl, rfl, f', rfl⟩
    show F_X3_count_B9 z a1 (some (hSz h)) _ (I32 k) Y = _
    unfold F_X3_count_B9
    rw [if_neg (ne29791 hk), ef, bind_some9, eY, v_isO Z2.1, bind_some9, ev, bind_some9, i32sB]
    have st : ∀ u : Nat, u = lin (cw D E) k → I32 (sumN (lin (cw D E)) k) + I32 u = I32 (sumN (lin (cw D E)) (k + 1)) := fun u hu => by
      rw [big_add, hu]
      rfl
    by_cases hs : sat D (mo (k % 31) (k / 31 % 31) (k / 31 / 31 % 31))
    · rw [if_neg (fun w => (fl_0 fv).mp w (sv.mpr hs))]
      rcases hE with ⟨rfl, rfl⟩ | ⟨zk, bk, dk, Dk, rfl, rfl, Zk, rk⟩
      · rw [if_pos rfl]
        rw [show I32 (sumN (lin (cw D none)) k) + (1 : Int32) = _ from st 1 (by unfold lin cw; rw [if_pos (bq_t.mpr ⟨hs, fun e he => by cases he⟩)])]
      · have Zk2 := Zk.gr gY2 (o.lt Zk.1) (o.lt Zk.2.1)
        obtain ⟨u, eu, fu⟩ := z_has Zk2 rk A2 q2
        have su := sat_cg (D := Dk) q1
        rw [if_neg (by simp), v_isO Zk2.1, bind_some9, eu, bind_some9]
        by_cases hs2 : sat Dk (mo (k % 31) (k / 31 % 31) (k / 31 / 31 % 31))
        · rw [if_neg (fun w => (fl_0 fu).mp w (su.mpr hs2)), show I32 (sumN (lin (cw D (some Dk))) k) + (0 : Int32) = _ from st 0 (by unfold lin cw; rw [bq_f.mpr (fun w => w.2 Dk rfl hs2)]; rfl)]
        · rw [if_pos ((fl_0 fu).mpr (fun w => hs2 (su.mp w))), show I32 (sumN (lin (cw D (some Dk))) k) + (1 : Int32) = _ from st 1 (by unfold lin cw; rw [if_pos (bq_t.mpr ⟨hs, fun e he => by cases he; exact hs2⟩)])]
    · rw [if_pos ((fl_0 fv).mpr (fun w => hs (sv.mp w))), show I32 (sumN (lin (cw D E)) k) + (0 : Int32) = _ from st 0 (by unfold lin cw; rw [bq_f.mpr (fun w => hs w.1)]; rfl)]) (fun y hy => by
    obtain ⟨x, kk, Y⟩ := y
    obtain ⟨e1, e2, f1, e3⟩ := hy
    have e1 : x = I32 (sumN (lin (cw D E)) 29791) := e1
    have e2 : kk = I32 29791 := e2
    have e3 : Y = hset (hpush h (.inl (0, 3, .inl fun _ => 0)) 3) (hSz h) (.inl (0, 3, .inl f1)) := e3
    subst e1
    subst e2
    subst e3
    refine ⟨_, ?_, f1, rfl⟩
    show F_X3_count_B9 z a1 (some (hSz h)) _ (I32 29791) _ = _
    unfold F_X3_count_B9
    rw [if_pos (show (29791 : Int32) ≤ I32 29791 from Int32.le_refl _), lin_T]) ⟨rfl, rfl, fun _ => 0, (hset_self (hF_push_eq _ _ _)).symm⟩ (by decide)
  refine ⟨f, ?_⟩
  unfold F_X3_count
  rw [v_newA (t := 0) (n := 3) (by decide) (by decide) (by decide) m, bind_some9, show zeroA 0 = (.inl fun _ => 0 : AV) from rfl, e, e2, bind_some9]
end Q7
