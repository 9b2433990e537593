/-! ferries by moments: codes, and where a tick or a line leads -/
def ck (c k : Nat) : Nat := if k = 0 then c / 121 % 11 else if k = 1 then c / 11 % 11 else c % 11
def hb (c : Nat) : Nat := c / 1331
def cd (h a b d : Nat) : Nat := ((h * 11 + a) * 11 + b) * 11 + d
def sv (s : Nat → Int32) (p k : Nat) : Nat := (s (84 + (3 * p + k))).toNatClampNeg
def lv (s : Nat → Int32) (l k : Nat) : Nat := (s (105 + 9 * l + k)).toNatClampNeg
def mvv (s : Nat → Int32) (l k : Nat) : Nat := (s (108 + 9 * l + k)).toNatClampNeg
def alw (s : Nat → Int32) (c : Nat) : Prop := ∀ k, k < 3 → sv s (hb c) k = 10 ∨ ck c k ≤ sv s (hb c) k
def nxt (c : Nat) : Nat := cd (hb c) (min 10 (ck c 0 + 1)) (min 10 (ck c 1 + 1)) (min 10 (ck c 2 + 1))
def lnT (s : Nat → Int32) (l c : Nat) : Prop := ∀ k, k < 3 → lv s l k ≤ ck c k ∧ (mvv s l k = 10 ∨ ck c k ≤ mvv s l k)
def thn (s : Nat → Int32) (l c k : Nat) : Nat := if lbit s l k then 0 else ck c k
def aft (s : Nat → Int32) (l c : Nat) : Nat := cd (too s l) (thn s l c 0) (thn s l c 1) (thn s l c 2)
noncomputable def nT (s : Nat → Int32) (c : Nat) : Option Nat := if bq (alw s (nxt c)) then some (nxt c) else none
noncomputable def nL (s : Nat → Int32) (l c : Nat) : Option Nat := if bq (s (103 + 9 * l) = I32 (hb c) ∧ lnT s l c ∧ alw s (aft s l c)) then some (aft s l c) else none
def oi : Option Nat → Int32
  | none => -1
  | some c => I32 c
theorem isC_nat {n : Nat} (hn : n ≤ 100) {x : Int32} (h : isC n x) : x = I32 x.toNatClampNeg ∧ x.toNatClampNeg ≤ n := by
  obtain ⟨k, hk, rfl⟩ := h
  rw [(ix_of k 200 (by omega) (by decide)).2.1]
  exact ⟨rfl, hk⟩
theorem ck_le (c k : Nat) : ck c k ≤ 10 := by
  unfold ck
  split
  · omega
  · split <;> omega
theorem hb_le {c : Nat} (h : c < 7986) : hb c ≤ 5 := by
  unfold hb
  omega
theorem cd_lt {h a b d : Nat} (hh : h ≤ 5) (ha : a ≤ 10) (hb' : b ≤ 10) (hd : d ≤ 10) : cd h a b d < 7986 := by
  unfold cd
  omega
theorem hb_cd {h a b d : Nat} (ha : a ≤ 10) (hb' : b ≤ 10) (hd : d ≤ 10) : hb (cd h a b d) = h := by
  unfold cd hb
  omega
theorem ck_cd {h : Nat} (t : Nat → Nat) (ht : ∀ k, k < 3 → t k ≤ 10) {k : Nat} (hk : k < 3) : ck (cd h (t 0) (t 1) (t 2)) k = t k := by
  have h0 := ht 0 (by decide)
  have h1 := ht 1 (by decide)
  have h2 := ht 2 (by decide)
  have : k = 0 ∨ k = 1 ∨ k = 2 := by omega
  rcases this with rfl | rfl | rfl
  · unfold ck cd
    rw [if_pos rfl]
    omega
  · unfold ck cd
    rw [if_neg (by decide), if_pos rfl]
    omega
  · unfold ck cd
    rw [if_neg (by decide), if_neg (by decide)]
    omega
theorem thn_le (s : Nat → Int32) (l c k : Nat) : thn s l c k ≤ 10 := by
  unfold thn
  split
  · exact Nat.zero_le _
  · exact ck_le c k
theorem aft_lt {s : Nat → Int32} {l c : Nat} (h : too s l ≤ 5) : aft s l c < 7986 := cd_lt h (thn_le s l c 0) (thn_le s l c 1) (thn_le s l c 2)
theorem nxt_lt {c : Nat} (h : c < 7986) : nxt c < 7986 := cd_lt (hb_le h) (Nat.min_le_left _ _) (Nat.min_le_left _ _) (Nat.min_le_left _ _)
theorem alw_aft {s : Nat → Int32} {l c : Nat} : alw s (aft s l c) ↔ ∀ k, k < 3 → sv s (too s l) k = 10 ∨ thn s l c k ≤ sv s (too s l) k := by
  unfold alw aft
  rw [hb_cd (thn_le s l c 0) (thn_le s l c 1) (thn_le s l c 2)]
  exact ⟨fun q k hk => by have := q k hk; rwa [ck_cd (thn s l c) (fun k _ => thn_le s l c k) hk] at this, fun q k hk => by rw [ck_cd (thn s l c) (fun k _ => thn_le s l c k) hk]; exact q k hk⟩
theorem alw_nxt {s : Nat → Int32} {c : Nat} (hs : ∀ k, k < 3 → sv s (hb c) k ≤ 10) : alw s (nxt c) ↔ ∀ k, k < 3 → sv s (hb c) k = 10 ∨ ck c k + 1 ≤ sv s (hb c) k := by
  unfold alw nxt
  rw [hb_cd (Nat.min_le_left _ _) (Nat.min_le_left _ _) (Nat.min_le_left _ _)]
  have e : ∀ k, k < 3 → ck (cd (hb c) (min 10 (ck c 0 + 1)) (min 10 (ck c 1 + 1)) (min 10 (ck c 2 + 1))) k = min 10 (ck c k + 1) := fun k hk => ck_cd (fun k => min 10 (ck c k + 1)) (fun k _ => Nat.min_le_left _ _) hk
  refine ⟨fun q k hk => ?_, fun q k hk => ?_⟩
  · have h1 := q k hk
    have h2 := hs k hk
    rw [e k hk] at h1
    omega
  · have h1 := q k hk
    rw [e k hk]
    omega
theorem nT_lt {s : Nat → Int32} {c : Nat} (h : c < 7986) : ∀ c', nT s c = some c' → c' < 7986 := fun c' e => by
  unfold nT at e
  split at e
  · cases e
    exact nxt_lt h
  · cases e
theorem nL_lt {s : Nat → Int32} {l c : Nat} (h : too s l ≤ 5) : ∀ c', nL s l c = some c' → c' < 7986 := fun c' e => by
  unfold nL at e
  split at e
  · cases e
    exact aft_lt h
  · cases e
theorem oi_ne {c : Nat} (h : c < 7986) : oi (some c) ≠ -1 := fun e => by
  have e : I32 c = -1 := e
  have := congrArg Int32.toInt e
  rw [i32t (by omega), show (-1 : Int32).toInt = -1 from rfl] at this
  omega
theorem oi_none {m : Option Nat} (h : ∀ c, m = some c → c < 7986) : oi m = -1 ↔ m = none := by
  cases m with
  | none => exact ⟨fun _ => rfl, fun _ => rfl⟩
  | some c => exact ⟨fun q => absurd q (oi_ne (h c rfl)), fun q => by cases q⟩
theorem oi_neg {m : Option Nat} (h : ∀ c, m = some c → c < 7986) : oi m < 0 ↔ m = none := by
  cases m with
  | none => exact ⟨fun _ => rfl, fun _ => by decide⟩
  | some c => exact ⟨fun q => absurd q (ix_of c 8000 (by have := h c rfl; omega) (by decide)).1, fun q => by cases q⟩
theorem l1331 : (1331 : Int32) = I32 1331 := rfl
theorem l121 : (121 : Int32) = I32 121 := rfl
theorem l11 : (11 : Int32) = I32 11 := rfl
theorem hb_of {c : Nat} (h : c < 20000) : I32 c / (1331 : Int32) = I32 (hb c) := by
  rw [l1331, big_div (by omega) (by decide) (by decide)]
  rfl
theorem clk {c k : Nat} (h : c < 20000) (hk : k < 3) : F_X1_clockOf (I32 c) (I32 k) = I32 (ck c k) := by
  have : k = 0 ∨ k = 1 ∨ k = 2 := by omega
  unfold F_X1_clockOf ck
  rw [l11, l121]
  rcases this with rfl | rfl | rfl
  · rw [if_pos (show I32 0 = (0 : Int32) from rfl), if_pos rfl, big_div (n := c) (by omega) (by decide) (by decide), big_mod (by omega) (by decide) (by decide)]
  · rw [if_neg (show ¬ I32 1 = (0 : Int32) by decide), if_pos (show I32 1 = (1 : Int32) from rfl), if_neg (show ¬ (1 : Nat) = 0 by decide), if_pos rfl, big_div (n := c) (by omega) (by decide) (by decide), big_mod (by omega) (by decide) (by decide)]
  · rw [if_neg (show ¬ I32 2 = (0 : Int32) by decide), if_neg (show ¬ I32 2 = (1 : Int32) by decide), if_neg (show ¬ (2 : Nat) = 0 by decide), if_neg (show ¬ (2 : Nat) = 1 by decide), big_mod (by omega) (by decide) (by decide)]
theorem clkM {c k : Nat} (h : c < 20000) (hk : k < 3) : F_X4_clockAt (I32 c) (I32 k) = I32 (ck c k) := clk h hk
theorem codeOf_n (h a b d : Nat) : F_X1_codeOf (I32 h) (I32 a) (I32 b) (I32 d) = I32 (cd h a b d) := by
  unfold F_X1_codeOf cd
  rw [l11, big_mul, big_add, big_mul, big_add, big_mul, big_add]
theorem momentAt_n (h a b d : Nat) : F_X4_momentAt (I32 h) (I32 a) (I32 b) (I32 d) = I32 (cd h a b d) := codeOf_n h a b d
theorem min_10 {x : Nat} (h : x ≤ 1000) : F_J11_min (10 : Int32) (I32 x) = I32 (min 10 x) := by
  unfold F_J11_min
  by_cases q : x < 10
  · rw [if_pos (Int32.lt_iff_toInt_lt.mpr (by rw [i32t (by omega), show (10 : Int32).toInt = 10 from rfl]; omega)), Nat.min_eq_right (by omega)]
  · rw [if_neg (fun w => by have w := Int32.lt_iff_toInt_lt.mp w; rw [i32t (by omega), show (10 : Int32).toInt = 10 from rfl] at w; omega), Nat.min_eq_left (by omega)]
    rfl
theorem less_10 {x : Nat} (h : x ≤ 1000) : F_X4_less (10 : Int32) (I32 x) = I32 (min 10 x) := by
  rw [less_min]
  unfold gmin
  by_cases q : x < 10
  · rw [if_pos (Int32.lt_iff_toInt_lt.mpr (by rw [i32t (by omega), show (10 : Int32).toInt = 10 from rfl]; omega)), Nat.min_eq_right (by omega)]
  · rw [if_neg (fun w => by have w := Int32.lt_iff_toInt_lt.mp w; rw [i32t (by omega), show (10 : Int32).toInt = 10 from rfl] at w; omega), Nat.min_eq_left (by omega)]
    rfl
theorem i32lt {a b : Nat} (ha : a ≤ 20000) (hb' : b ≤ 20000) : I32 a < I32 b ↔ a < b := by
  rw [Int32.lt_iff_toInt_lt, i32t ha, i32t hb']
  omega
theorem i32e10 {a : Nat} (ha : a ≤ 20000) : I32 a = (10 : Int32) ↔ a = 10 := ⟨fun e => i32inj ha (by decide) e, fun e => by rw [e]; rfl⟩
