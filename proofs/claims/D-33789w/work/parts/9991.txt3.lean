/-! texts: the form of an order, the model's side -/
def wL (x : Int32) : Option Nat := if x = 100 then some 3 else if x = 109 ∨ x = 108 ∨ x = 114 then some 2 else if x = 102 then some 1 else if x = 119 ∨ x = 116 then some 0 else none
def KT (S0 S : MS) : Prop := (∀ K, S.1 K = S0.1 K) ∧ ∀ K, (K < 20 ∨ 26 < K) → S.2.1 K = S0.2.1 K
theorem KT.rf (S : MS) : KT S S := ⟨fun _ => rfl, fun _ _ => rfl⟩
theorem KT.i {S0 S : MS} (a : KT S0 S) {K : Nat} (h1 : 20 ≤ K) (h2 : K ≤ 26) (x : Int32) : KT S0 (setI S K x) := ⟨a.1, fun K' h => by
  rw [setI_ne _ _ (by omega)]
  exact a.2 K' h⟩
/-- m signs of an order are behind, or one of them was another one -/
def ML (S0 S : MS) (len p w m : Nat) (lt : Int32) : Prop := KT S0 S ∧ S.2.1 21 = I32 p ∧ S.2.1 23 = lt ∧ ((S.2.1 22 = 1 ∧ S.2.1 20 = I32 (p + 1 + m) ∧ ∀ j, j < m → TK len (S0.1 6) p w j) ∨ (S.2.1 22 = 0 ∧ ∃ i, i < m ∧ S.2.1 20 = I32 (p + 1 + i) ∧ ¬ TK len (S0.1 6) p w i ∧ ∀ j, j < i → TK len (S0.1 6) p w j))
def DG (S0 S : MS) (len p k : Nat) : Prop := S.2.1 22 = 1 → ∀ j, j < k → S.2.1 (24 + j) = chA len (S0.1 6) (p + 1 + 2 * j) - (48 : Int32)
theorem in_dig : ∀ n, n < 127 → ((0 ≤ (I32 n - (48 : Int32)).toInt ∧ (I32 n - (48 : Int32)).toInt ≤ 9) ↔ (48 ≤ (I32 n).toInt ∧ (I32 n).toInt ≤ 57)) := by decide
section MTX
variable {S0 S : MS} {len p w m k q : Nat} {lt x : Int32}
theorem m_here (h20 : S.2.1 20 = I32 q) (h7 : S.2.1 7 = I32 len) (hl : len ≤ 60) (hq : q ≤ 1000) : P_X4_here S = some (chA len (S.1 6) q) := by
  unfold P_X4_here pgI chA
  rw [h20, bind_some9, h7, bind_some9]
  by_cases c : q < len
  · rw [if_neg (fun c => by rw [i32le (by omega) (by omega)] at c; omega), bind_some9, rd_i (show ix (I32 q) q (mlen 6) from ix_of q 60 (by omega) (by decide)), bind_some9, if_pos c]
  · rw [if_pos ((i32le (by omega) (by omega)).mpr (by omega)), if_neg c]
theorem m_take1 (h22 : S.2.1 22 = 1) (h20 : S.2.1 20 = I32 q) (hq : q ≤ 1000) (hx : x ≠ 0) : P_X4_takes x S = some (setI (setI S 22 1) 20 (I32 (q + 1))) := by
  unfold P_X4_takes pgI
  rw [h22, bind_some9, if_neg (show ¬ (1 : Int32) = 0 by decide), if_neg hx, show okZ (1 : Int32) = some () from rfl, bind_some9, show piI S 22 (1 : Int32) = some (setI S 22 1) from rfl, bind_some9, bind_some9, bind_some9, setI_ne _ _ (by decide), setI_get, h20, if_neg (show ¬ (1 : Int32) = 0 by decide), i32s q (by omega)]
  rfl
theorem m_take0 (h20 : S.2.1 20 = I32 q) (hx : S.2.1 22 = 0 ∨ x = 0) : P_X4_takes x S = some (setI (setI S 22 0) 20 (I32 q)) := by
  have e : (if S.2.1 22 = 0 then (0 : Int32) else (if x = 0 then (0 : Int32) else (1 : Int32))) = 0 := by
    rcases hx with h | h
    · exact if_pos h
    · by_cases c : S.2.1 22 = 0
      · exact if_pos c
      · rw [if_neg c, if_pos h]
  unfold P_X4_takes pgI
  rw [bind_some9, e, show okZ (0 : Int32) = some () from rfl, bind_some9, show piI S 22 (0 : Int32) = some (setI S 22 0) from rfl, bind_some9, bind_some9, bind_some9, setI_ne _ _ (by decide), setI_get, h20, if_pos rfl, Int32.add_zero]
  rfl
/-- one sign more -/
theorem m_step (M : ML S0 S len p w m lt) (hp : p ≤ 100) (hm : m ≤ 20) (hx : S.2.1 22 = 1 → fl x (TK len (S0.1 6) p w m)) : ∃ S', P_X4_takes x S = some S' ∧ ML S0 S' len p w (m + 1) lt ∧ (S'.2.1 22 = 1 → S.2.1 22 = 1) ∧ ∀ K, 24 ≤ K → S'.2.1 K = S.2.1 K := by
  obtain ⟨k, h21, h23, hc⟩ := M
  have kt : ∀ a b, KT S0 (setI (setI S 22 a) 20 b) := fun a b => (k.i (K := 22) (by decide) (by decide) a).i (K := 20) (by decide) (by decide) b
  have kp : ∀ a b K, K ≠ 20 → K ≠ 22 → (setI (setI S 22 a) 20 b).2.1 K = S.2.1 K := fun a b K h1 h2 => by rw [setI_ne _ _ h1, setI_ne _ _ h2]
  rcases hc with ⟨h22, h20, hj⟩ | ⟨h22, i, hi, h20, ni, hj⟩
  · rcases hx h22 with ⟨x1, t⟩ | ⟨x0, t⟩
    · refine ⟨_, m_take1 h22 h20 (by omega) (by rw [x1]; decide), ⟨kt _ _, (kp _ _ 21 (by decide) (by decide)).trans h21, (kp _ _ 23 (by decide) (by decide)).trans h23, Or.inl ⟨by rw [setI_ne _ _ (by decide), setI_get], setI_get _ _ _, fun j h => ?_⟩⟩, fun _ => h22, fun K hK => kp _ _ K (by omega) (by omega)⟩
      by_cases c : j = m
      · rw [c]
        exact t
      · exact hj j (by omega)
    · refine ⟨_, m_take0 h20 (Or.inr x0), ⟨kt _ _, (kp _ _ 21 (by decide) (by decide)).trans h21, (kp _ _ 23 (by decide) (by decide)).trans h23, Or.inr ⟨by rw [setI_ne _ _ (by decide), setI_get], m, Nat.lt_succ_self m, setI_get _ _ _, t, hj⟩⟩, fun w => ?_, fun K hK => kp _ _ K (by omega) (by omega)⟩
      rw [setI_ne _ _ (by decide), setI_get] at w
      exact absurd w (by decide)
  · refine ⟨_, m_take0 h20 (Or.inl h22), ⟨kt _ _, (kp _ _ 21 (by decide) (by decide)).trans h21, (kp _ _ 23 (by decide) (by decide)).trans h23, Or.inr ⟨by rw [setI_ne _ _ (by decide), setI_get], i, by omega, setI_get _ _ _, ni, hj⟩⟩, fun w => ?_, fun K hK => kp _ _ K (by omega) (by omega)⟩
    rw [setI_ne _ _ (by decide), setI_get] at w
    exact absurd w (by decide)
theorem ML.spot (M : ML S0 S len p w m lt) : ∃ q, q ≤ p + 1 + m ∧ S.2.1 20 = I32 q ∧ (S.2.1 22 = 1 → q = p + 1 + m) := by
  obtain ⟨k, h21, h23, hc⟩ := M
  rcases hc with ⟨h22, h20, hj⟩ | ⟨h22, i, hi, h20, ni, hj⟩
  · exact ⟨_, Nat.le_refl _, h20, fun _ => rfl⟩
  · exact ⟨_, by omega, h20, fun w => absurd (h22.symm.trans w) (by decide)⟩
theorem ML.here (M : ML S0 S len p w m lt) (h7 : S0.2.1 7 = I32 len) (hl : len ≤ 60) (hp : p ≤ 100) (hm : m ≤ 20) : ∃ v q, P_X4_here S = some v ∧ v = chA len (S0.1 6) q ∧ (S.2.1 22 = 1 → q = p + 1 + m) := by
  obtain ⟨q, q1, q2, q3⟩ := M.spot
  have e := m_here q2 ((M.1.2 7 (by decide)).trans h7) hl (by omega)
  rw [M.1.1 6] at e
  exact ⟨_, q, e, rfl, q3⟩
theorem m_sign {sg : Int32} (M : ML S0 S len p w m lt) (h7 : S0.2.1 7 = I32 len) (hl : len ≤ 60) (hp : p ≤ 100) (hm : m ≤ 20) (ht : TK len (S0.1 6) p w m ↔ chA len (S0.1 6) (p + 1 + m) = sg) (hd : DG S0 S len p k) : ∃ v S', P_X4_here S = some v ∧ P_X4_takes (if v = sg then (1 : Int32) else (0 : Int32)) S = some S' ∧ ML S0 S' len p w (m + 1) lt ∧ DG S0 S' len p k := by
  obtain ⟨v, q, e, ev, eq⟩ := M.here h7 hl hp hm
  obtain ⟨S', e2, M2, c1, c2⟩ := m_step (x := if v = sg then (1 : Int32) else (0 : Int32)) M hp hm (fun h => by
    rw [ev, eq h]
    exact fl_congr fl_pos ht.symm)
  exact ⟨v, S', e, e2, M2, fun h j hj => by
    rw [c2 _ (by omega)]
    exact hd (c1 h) j hj⟩
theorem m_dig (M : ML S0 S len p w (2 * k) lt) (h7 : S0.2.1 7 = I32 len) (hl : len ≤ 60) (hp : p ≤ 100) (hk : k < w) (hk3 : k < 3) (hch : ∀ q, ∃ n, n < 127 ∧ chA len (S0.1 6) q = I32 n) (hd : DG S0 S len p k) : ∃ v S', P_X4_takesDigit S = some (v, S') ∧ ML S0 (setI S' (24 + k) v) len p w (2 * k + 1) lt ∧ DG S0 (setI S' (24 + k) v) len p (k + 1) := by
  obtain ⟨v, q, e, ev, eq⟩ := M.here h7 hl hp (by omega)
  obtain ⟨S', e2, M2, c1, c2⟩ := m_step (x := F_X4_in (v - (48 : Int32)) 0 9) M hp (by omega) (fun h => by
    rw [ev, eq h]
    obtain ⟨n, n1, en⟩ := hch (p + 1 + 2 * k)
    refine fl_congr (in_fl (chA len (S0.1 6) (p + 1 + 2 * k) - (48 : Int32)) 0 9) ((?_ : _ ↔ isD (chA len (S0.1 6) (p + 1 + 2 * k))).trans (TK_d hk).symm)
    rw [en]
    exact in_dig n n1)
  refine ⟨v - (48 : Int32), S', ?_, ⟨M2.1.i (by omega) (by omega) _, by rw [setI_ne _ _ (by omega)]; exact M2.2.1, by rw [setI_ne _ _ (by omega)]; exact M2.2.2.1, ?_⟩, fun h j hj => ?_⟩
  · unfold P_X4_takesDigit
    rw [e, bind_some9, e2, bind_some9]
  · rw [setI_ne _ _ (by omega), setI_ne _ _ (by omega)]
    exact M2.2.2.2
  · rw [setI_ne _ _ (by omega)] at h
    by_cases c : j = k
    · rw [c, setI_get, ev, eq (c1 h)]
    · rw [setI_ne _ _ (by omega), c2 _ (by omega)]
      exact hd (c1 h) j (by omega)
theorem ML.out (M : ML S0 S len p w (nW w) lt) : ∃ pos, S.2.1 20 = I32 pos ∧ pos ≤ p + 1 + nW w ∧ OutF len (S0.1 6) p w pos (S.2.1 22) := by
  obtain ⟨k, h21, h23, hc⟩ := M
  rcases hc with ⟨h22, h20, hj⟩ | ⟨h22, i, hi, h20, ni, hj⟩
  · exact ⟨_, h20, Nat.le_refl _, Or.inl ⟨h22, rfl, hj⟩⟩
  · exact ⟨_, h20, by omega, Or.inr ⟨h22, i, hi, rfl, ni, hj⟩⟩
theorem t199 (M : ML S0 S len p w (tcW w) lt) (h7 : S0.2.1 7 = I32 len) (hl : len ≤ 60) (hp : p ≤ 100) (hw : w ≤ 3) (hd : DG S0 S len p w) (a b d : Int32) : ∃ S', P_X4_takesOrder_T199 a b d S = some S' ∧ ML S0 S' len p w (nW w) lt ∧ DG S0 S' len p w := by
  have tw := tcW_w w
  have n8 : nW w ≤ 6 := by
    unfold nW
    split <;> omega
  obtain ⟨v, S', e1, e2, M2, d2⟩ := m_sign (sg := 59) M h7 hl hp (by omega) TK_e hd
  rw [tw] at M2
  refine ⟨S', ?_, M2, d2⟩
  unfold P_X4_takesOrder_T199
  rw [e1, bind_some9, e2, bind_some9]
theorem ML.pg (M : ML S0 S len p w m lt) : pgI S 23 = some lt := by
  unfold pgI
  rw [M.2.2.1]
theorem t164n (M : ML S0 S len p w (tcW w) lt) (h7 : S0.2.1 7 = I32 len) (hl : len ≤ 60) (hp : p ≤ 100) (hw : w ≤ 3) (hd : DG S0 S len p w) (hlt : lt ≠ 100) (a b d : Int32) : ∃ S', P_X4_takesOrder_T164 a b d S = some S' ∧ ML S0 S' len p w (nW w) lt ∧ DG S0 S' len p w := by
  obtain ⟨S', e, q⟩ := t199 M h7 hl hp hw hd a b d
  refine ⟨S', ?_, q⟩
  unfold P_X4_takesOrder_T164
  rw [M.pg, bind_some9, if_neg hlt, e]
theorem t164d (M : ML S0 S len p 3 (tcW 2) lt) (h7 : S0.2.1 7 = I32 len) (hl : len ≤ 60) (hp : p ≤ 100) (hch : ∀ q, ∃ n, n < 127 ∧ chA len (S0.1 6) q = I32 n) (hd : DG S0 S len p 2) (hlt : lt = 100) (a b d : Int32) : ∃ S', P_X4_takesOrder_T164 a b d S = some S' ∧ ML S0 S' len p 3 (nW 3) lt ∧ DG S0 S' len p 3 := by
  obtain ⟨v, S1, e1, e2, M1, d1⟩ := m_sign (sg := 44) M h7 hl hp (by decide) (TK_c (w := 3) (k := 2) (by decide) (by decide)) hd
  obtain ⟨u, S2, e3, M2, d2⟩ := m_dig (k := 2) M1 h7 hl hp (by decide) (by decide) hch d1
  obtain ⟨S', e, q⟩ := t199 (w := 3) M2 h7 hl hp (by decide) d2 a b d
  refine ⟨S', ?_, q⟩
  unfold P_X4_takesOrder_T164
  rw [M.pg, bind_some9, if_pos hlt, e1, bind_some9, e2, bind_some9, e3, pb2_s, show piI S2 26 u = some (setI S2 (24 + 2) u) from rfl, bind_some9, e]
/-- an order whose letter is one of the seven -/
theorem m_order {w : Nat} (h20 : S0.2.1 20 = I32 p) (h7 : S0.2.1 7 = I32 len) (hl : len ≤ 60) (hp : p < len) (hch : ∀ q, ∃ n, n < 127 ∧ chA len (S0.1 6) q = I32 n) (hW : wL (S0.1 6 p) = some w) : w ≤ 3 ∧ ∃ S', P_X4_takesOrder S0 = some S' ∧ ML S0 S' len p w (nW w) (S0.1 6 p) ∧ DG S0 S' len p w := by
  obtain ⟨lt, elt⟩ : ∃ lt, lt = S0.1 6 p := ⟨_, rfl⟩
  rw [← elt] at hW ⊢
  obtain ⟨S3, eS3⟩ : ∃ S3, S3 = setI (setI (setI S0 21 (I32 p)) 22 1) 23 lt := ⟨_, rfl⟩
  have hh : P_X4_here (setI (setI S0 21 (I32 p)) 22 1) = some lt := by
    rw [m_here (q := p) (len := len) (by rw [setI_ne _ _ (by decide), setI_ne _ _ (by decide)]; exact h20) (by rw [setI_ne _ _ (by decide), setI_ne _ _ (by decide)]; exact h7) hl (by omega), elt]
    unfold chA
    rw [if_pos hp]
    rfl
  have k3 : KT S0 S3 := by
    rw [eS3]
    exact (((KT.rf S0).i (K := 21) (by decide) (by decide) _).i (K := 22) (by decide) (by decide) _).i (K := 23) (by decide) (by decide) _
  have s20 : S3.2.1 20 = I32 p := by
    rw [eS3, setI_ne _ _ (by decide), setI_ne _ _ (by decide), setI_ne _ _ (by decide)]
    exact h20
  have s21 : S3.2.1 21 = I32 p := by rw [eS3, setI_ne _ _ (by decide), setI_ne _ _ (by decide), setI_get]
  have s22 : S3.2.1 22 = 1 := by rw [eS3, setI_ne _ _ (by decide), setI_get]
  have s23 : S3.2.1 23 = lt := by rw [eS3, setI_get]
  have p3 : pgI S3 23 = some lt := by
    unfold pgI
    rw [s23]
  have a0 : ∀ w, ∃ S4, P_X4_takes (1 : Int32) S3 = some S4 ∧ ML S0 S4 len p w 0 lt ∧ DG S0 S4 len p 0 := fun w => ⟨_, m_take1 s22 s20 (by omega) (by decide), ⟨(k3.i (K := 22) (by decide) (by decide) _).i (K := 20) (by decide) (by decide) _, by rw [setI_ne _ _ (by decide), setI_ne _ _ (by decide)]; exact s21, by rw [setI_ne _ _ (by decide), setI_ne _ _ (by decide)]; exact s23, Or.inl ⟨by rw [setI_ne _ _ (by decide), setI_get], setI_get _ _ _, fun j hj => absurd hj (Nat.not_lt_zero j)⟩⟩, fun _ j hj => absurd hj (Nat.not_lt_zero j)⟩
  have start : P_X4_takesOrder S0 = (if lt = (119 : Int32) then P_X4_takesOrder_T44 (1 : Int32) S3 else if lt = (116 : Int32) then P_X4_takesOrder_T44 (1 : Int32) S3 else P_X4_takesOrder_T44 (0 : Int32) S3) := by
    unfold P_X4_takesOrder
    rw [show pgI S0 20 = some (I32 p) from by unfold pgI; rw [h20], bind_some9, show piI S0 21 (I32 p) = some (setI S0 21 (I32 p)) from rfl, bind_some9, show piI (setI S0 21 (I32 p)) 22 (1 : Int32) = some (setI (setI S0 21 (I32 p)) 22 1) from rfl, bind_some9, hh, bind_some9, show piI (setI (setI S0 21 (I32 p)) 22 1) 23 lt = some S3 from by rw [eS3]; rfl, bind_some9, p3, bind_some9, bind_some9]
  rw [start]
  unfold wL at hW
  by_cases c1 : lt = 100
  · rw [if_pos c1] at hW
    cases hW
    obtain ⟨S4, e4, M4, d4⟩ := a0 3
    obtain ⟨v5, S5, e5, M5, d5⟩ := m_dig (k := 0) M4 h7 hl (by omega) (by decide) (by decide) hch d4
    obtain ⟨v6, S6, e6, e6', M6, d6⟩ := m_sign (sg := 44) M5 h7 hl (by omega) (by decide) (TK_c (w := 3) (k := 1) (by decide) (by decide)) d5
    obtain ⟨v7, S7, e7, M7, d7⟩ := m_dig (k := 1) M6 h7 hl (by omega) (by decide) (by decide) hch d6
    obtain ⟨S', e, q⟩ := t164d M7 h7 hl (by omega) hch d7 c1 0 0 1
    refine ⟨by decide, S', ?_, q⟩
    unfold P_X4_takesOrder_T44 P_X4_takesOrder_T77 P_X4_takesOrder_T110 P_X4_takesOrder_T125
    rw [if_neg (by rw [c1]; decide), if_neg (by rw [c1]; decide), p3, bind_some9, if_neg (by rw [c1]; decide), bind_some9, if_neg (by rw [c1]; decide), bind_some9, if_neg (by rw [c1]; decide), if_pos rfl, if_pos rfl, bind_some9, if_pos c1, e4, bind_some9, if_pos rfl, e5, pb2_s, show piI S5 24 v5 = some (setI S5 (24 + 0) v5) from rfl, bind_some9, if_pos rfl, M5.pg, bind_some9, if_pos c1, e6, bind_some9, e6', bind_some9, e7, pb2_s, show piI S7 25 v7 = some (setI S7 (24 + 1) v7) from rfl, bind_some9, e]
  · rw [if_neg c1] at hW
    by_cases c2 : lt = 109 ∨ lt = 108 ∨ lt = 114
    · rw [if_pos c2] at hW
      cases hW
      obtain ⟨S4, e4, M4, d4⟩ := a0 2
      obtain ⟨v5, S5, e5, M5, d5⟩ := m_dig (k := 0) M4 h7 hl (by omega) (by decide) (by decide) hch d4
      obtain ⟨v6, S6, e6, e6', M6, d6⟩ := m_sign (sg := 44) M5 h7 hl (by omega) (by decide) (TK_c (w := 2) (k := 1) (by decide) (by decide)) d5
      obtain ⟨v7, S7, e7, M7, d7⟩ := m_dig (k := 1) M6 h7 hl (by omega) (by decide) (by decide) hch d6
      obtain ⟨S', e, q⟩ := t164n (w := 2) M7 h7 hl (by omega) (by decide) d7 c1 0 1 1
      refine ⟨by decide, S', ?_, q⟩
      have e77 : P_X4_takesOrder_T77 (0 : Int32) (1 : Int32) S3 = some S' := by
        unfold P_X4_takesOrder_T77 P_X4_takesOrder_T110 P_X4_takesOrder_T125
        rw [if_pos rfl, if_neg (by decide), e4, bind_some9, if_pos rfl, e5, pb2_s, show piI S5 24 v5 = some (setI S5 (24 + 0) v5) from rfl, bind_some9, if_neg (by decide), e6, bind_some9, e6', bind_some9, e7, pb2_s, show piI S7 25 v7 = some (setI S7 (24 + 1) v7) from rfl, bind_some9, e]
      have n1 : lt ≠ 119 ∧ lt ≠ 116 := by rcases c2 with c | c | c <;> rw [c] <;> decide
      unfold P_X4_takesOrder_T44
      rw [if_neg n1.1, if_neg n1.2, p3, bind_some9]
      by_cases d1 : lt = 109
      · rw [if_pos d1, e77]
      · rw [if_neg d1, bind_some9]
        by_cases d2 : lt = 108
        · rw [if_pos d2, e77]
        · rw [if_neg d2, bind_some9, if_pos (c2.elim (fun w => absurd w d1) (fun w => w.elim (fun w => absurd w d2) id)), e77]
    · rw [if_neg c2] at hW
      have m1 : lt ≠ 109 := fun w => c2 (Or.inl w)
      have m2 : lt ≠ 108 := fun w => c2 (Or.inr (Or.inl w))
      have m3 : lt ≠ 114 := fun w => c2 (Or.inr (Or.inr w))
      by_cases c3 : lt = 102
      · rw [if_pos c3] at hW
        cases hW
        obtain ⟨S4, e4, M4, d4⟩ := a0 1
        obtain ⟨v5, S5, e5, M5, d5⟩ := m_dig (k := 0) M4 h7 hl (by omega) (by decide) (by decide) hch d4
        obtain ⟨S', e, q⟩ := t164n (w := 1) M5 h7 hl (by omega) (by decide) d5 c1 0 0 1
        refine ⟨by decide, S', ?_, q⟩
        unfold P_X4_takesOrder_T44 P_X4_takesOrder_T77 P_X4_takesOrder_T110 P_X4_takesOrder_T125
        rw [if_neg (by rw [c3]; decide), if_neg (by rw [c3]; decide), p3, bind_some9, if_neg m1, bind_some9, if_neg m2, bind_some9, if_neg m3, if_pos rfl, if_pos rfl, bind_some9, if_neg c1, bind_some9, if_pos c3, e4, bind_some9, if_pos rfl, e5, pb2_s, show piI S5 24 v5 = some (setI S5 (24 + 0) v5) from rfl, bind_some9, if_pos rfl, M5.pg, bind_some9, if_neg c1, e]
      · rw [if_neg c3] at hW
        by_cases c4 : lt = 119 ∨ lt = 116
        · rw [if_pos c4] at hW
          cases hW
          obtain ⟨S4, e4, M4, d4⟩ := a0 0
          obtain ⟨S', e, q⟩ := t164n (w := 0) M4 h7 hl (by omega) (by decide) d4 c1 1 0 1
          refine ⟨by decide, S', ?_, q⟩
          have e44 : P_X4_takesOrder_T44 (1 : Int32) S3 = some S' := by
            unfold P_X4_takesOrder_T44 P_X4_takesOrder_T77 P_X4_takesOrder_T110 P_X4_takesOrder_T125
            rw [p3, bind_some9, if_neg m1, bind_some9, if_neg m2, bind_some9, if_neg m3, if_neg (by decide), e4, bind_some9, if_neg (by decide), if_pos rfl, M4.pg, bind_some9, if_neg c1, e]
          rcases c4 with d | d
          · rw [if_pos d, e44]
          · rw [if_neg (by rw [d]; decide), if_pos d, e44]
        · rw [if_neg c4] at hW
          cases hW
theorem m_dead {q : Nat} (h22 : S.2.1 22 = 0) (h20 : S.2.1 20 = I32 q) (k : KT S0 S) (x : Int32) : ∃ S', P_X4_takes x S = some S' ∧ S'.2.1 22 = 0 ∧ S'.2.1 20 = I32 q ∧ KT S0 S' ∧ S'.2.1 21 = S.2.1 21 ∧ S'.2.1 23 = S.2.1 23 := ⟨_, m_take0 h20 (Or.inl h22), by rw [setI_ne _ _ (by decide), setI_get], setI_get _ _ _, (k.i (K := 22) (by decide) (by decide) _).i (K := 20) (by decide) (by decide) _, by rw [setI_ne _ _ (by decide), setI_ne _ _ (by decide)], by rw [setI_ne _ _ (by decide), setI_ne _ _ (by decide)]⟩
/-- no order: the letter is none of the seven -/
theorem m_order_no (h20 : S0.2.1 20 = I32 p) (h7 : S0.2.1 7 = I32 len) (hl : len ≤ 60) (hp : p < len) (hW : wL (S0.1 6 p) = none) : ∃ S', P_X4_takesOrder S0 = some S' ∧ KT S0 S' ∧ S'.2.1 21 = I32 p ∧ S'.2.1 22 = 0 ∧ S'.2.1 20 = I32 p := by
  obtain ⟨lt, elt⟩ : ∃ lt, lt = S0.1 6 p := ⟨_, rfl⟩
  rw [← elt] at hW
  obtain ⟨S3, eS3⟩ : ∃ S3, S3 = setI (setI (setI S0 21 (I32 p)) 22 1) 23 lt := ⟨_, rfl⟩
  have hh : P_X4_here (setI (setI S0 21 (I32 p)) 22 1) = some lt := by
    rw [m_here (q := p) (len := len) (by rw [setI_ne _ _ (by decide), setI_ne _ _ (by decide)]; exact h20) (by rw [setI_ne _ _ (by decide), setI_ne _ _ (by decide)]; exact h7) hl (by omega), elt]
    unfold chA
    rw [if_pos hp]
    rfl
  have k3 : KT S0 S3 := by
    rw [eS3]
    exact (((KT.rf S0).i (K := 21) (by decide) (by decide) _).i (K := 22) (by decide) (by decide) _).i (K := 23) (by decide) (by decide) _
  have s20 : S3.2.1 20 = I32 p := by
    rw [eS3, setI_ne _ _ (by decide), setI_ne _ _ (by decide), setI_ne _ _ (by decide)]
    exact h20
  have s21 : S3.2.1 21 = I32 p := by rw [eS3, setI_ne _ _ (by decide), setI_ne _ _ (by decide), setI_get]
  have s23 : S3.2.1 23 = lt := by rw [eS3, setI_get]
  have p3 : pgI S3 23 = some lt := by
    unfold pgI
    rw [s23]
  have start : P_X4_takesOrder S0 = (if lt = (119 : Int32) then P_X4_takesOrder_T44 (1 : Int32) S3 else if lt = (116 : Int32) then P_X4_takesOrder_T44 (1 : Int32) S3 else P_X4_takesOrder_T44 (0 : Int32) S3) := by
    unfold P_X4_takesOrder
    rw [show pgI S0 20 = some (I32 p) from by unfold pgI; rw [h20], bind_some9, show piI S0 21 (I32 p) = some (setI S0 21 (I32 p)) from rfl, bind_some9, show piI (setI S0 21 (I32 p)) 22 (1 : Int32) = some (setI (setI S0 21 (I32 p)) 22 1) from rfl, bind_some9, hh, bind_some9, show piI (setI (setI S0 21 (I32 p)) 22 1) 23 lt = some S3 from by rw [eS3]; rfl, bind_some9, p3, bind_some9, bind_some9]
  unfold wL at hW
  by_cases c1 : lt = 100
  · rw [if_pos c1] at hW
    cases hW
  rw [if_neg c1] at hW
  by_cases c2 : lt = 109 ∨ lt = 108 ∨ lt = 114
  · rw [if_pos c2] at hW
    cases hW
  rw [if_neg c2] at hW
  by_cases c3 : lt = 102
  · rw [if_pos c3] at hW
    cases hW
  rw [if_neg c3] at hW
  by_cases c4 : lt = 119 ∨ lt = 116
  · rw [if_pos c4] at hW
    cases hW
  have m1 : lt ≠ 109 := fun w => c2 (Or.inl w)
  have m2 : lt ≠ 108 := fun w => c2 (Or.inr (Or.inl w))
  have m3 : lt ≠ 114 := fun w => c2 (Or.inr (Or.inr w))
  have m4 : lt ≠ 119 := fun w => c4 (Or.inl w)
  have m5 : lt ≠ 116 := fun w => c4 (Or.inr w)
  obtain ⟨S4, e4, a1, a2, a3, a4, a5⟩ : ∃ S', P_X4_takes (0 : Int32) S3 = some S' ∧ S'.2.1 22 = 0 ∧ S'.2.1 20 = I32 p ∧ KT S0 S' ∧ S'.2.1 21 = S3.2.1 21 ∧ S'.2.1 23 = S3.2.1 23 := ⟨_, m_take0 s20 (Or.inr rfl), by rw [setI_ne _ _ (by decide), setI_get], setI_get _ _ _, (k3.i (K := 22) (by decide) (by decide) _).i (K := 20) (by decide) (by decide) _, by rw [setI_ne _ _ (by decide), setI_ne _ _ (by decide)], by rw [setI_ne _ _ (by decide), setI_ne _ _ (by decide)]⟩
  have h4 := m_here a2 ((a3.2 7 (by decide)).trans h7) hl (by omega)
  obtain ⟨S5, e5, b1, b2, b3, b4, b5⟩ := m_dead a1 a2 a3 (F_X4_in (chA len (S4.1 6) p - (48 : Int32)) 0 9)
  obtain ⟨S6, eS6⟩ : ∃ S6, S6 = setI S5 24 (chA len (S4.1 6) p - (48 : Int32)) := ⟨_, rfl⟩
  have k6 : KT S0 S6 := by
    rw [eS6]
    exact b3.i (by decide) (by decide) _
  have f1 : S6.2.1 22 = 0 := by rw [eS6, setI_ne _ _ (by decide)]; exact b1
  have f2 : S6.2.1 20 = I32 p := by rw [eS6, setI_ne _ _ (by decide)]; exact b2
  have f3 : S6.2.1 21 = I32 p := by rw [eS6, setI_ne _ _ (by decide), b4, a4]; exact s21
  have f4 : pgI S6 23 = some lt := by
    unfold pgI
    rw [eS6, setI_ne _ _ (by decide), b5, a5, s23]
  have h6 := m_here f2 ((k6.2 7 (by decide)).trans h7) hl (by omega)
  obtain ⟨S7, e7, g1, g2, g3, g4, g5⟩ := m_dead f1 f2 k6 (if chA len (S6.1 6) p = (59 : Int32) then (1 : Int32) else (0 : Int32))
  refine ⟨S7, ?_, g3, g4.trans f3, g1, g2⟩
  rw [start]
  unfold P_X4_takesOrder_T44 P_X4_takesOrder_T77 P_X4_takesOrder_T110 P_X4_takesOrder_T125 P_X4_takesOrder_T164 P_X4_takesOrder_T199 P_X4_takesDigit
  rw [if_neg m4, if_neg m5, p3, bind_some9, if_neg m1, bind_some9, if_neg m2, bind_some9, if_neg m3, if_pos rfl, if_pos rfl, bind_some9, if_neg c1, bind_some9, if_neg c3, e4, bind_some9, if_pos rfl, h4, bind_some9, e5, bind_some9, pb2_s, show piI S5 24 (chA len (S4.1 6) p - (48 : Int32)) = some S6 from by rw [eS6]; rfl, bind_some9, if_pos rfl, f4, bind_some9, if_neg c1, bind_some9, if_neg c1, h6, bind_some9, e7, bind_some9]
end MTX
