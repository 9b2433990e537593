/-! ferries: the list of stops, the model's side -/
def MSt (S : MS) (n : Nat) (g : Nat → SP) : Prop := S.2.1 16 = I32 n ∧ n ≤ 121 ∧ ∀ i, i < n → S.1 14 i = I32 (g i).1 ∧ S.1 15 i = I32 (g i).2.2 ∧ rep 100000 (sub (S.1 13) (16 * i)) (g i).2.1
/-- the model's state but for its ferries by zones -/
def FK (S S' : MS) : Prop := (∀ K, K ≠ 9 → K ≠ 13 → K ≠ 14 → K ≠ 15 → S'.1 K = S.1 K) ∧ ∀ K, K ≠ 16 → S'.2.1 K = S.2.1 K
theorem FK.rf (S : MS) : FK S S := ⟨fun _ _ _ _ _ => rfl, fun _ _ => rfl⟩
theorem FK.tr {S S1 S2 : MS} (a : FK S S1) (b : FK S1 S2) : FK S S2 := ⟨fun K h1 h2 h3 h4 => (b.1 K h1 h2 h3 h4).trans (a.1 K h1 h2 h3 h4), fun K h => (b.2 K h).trans (a.2 K h)⟩
theorem FK.a {S S' : MS} (a : FK S S') {K : Nat} (hK : K = 9 ∨ K = 13 ∨ K = 14 ∨ K = 15) (d : ZS) : FK S (setA S' K d) := ⟨fun K' h1 h2 h3 h4 => by
  rw [setA_ne _ _ (by omega)]
  exact a.1 K' h1 h2 h3 h4, a.2⟩
theorem FK.i {S S' : MS} (a : FK S S') (x : Int32) : FK S (setI S' 16 x) := ⟨a.1, fun K h => by
  rw [setI_ne _ _ h]
  exact a.2 K h⟩
theorem FK.sm {S S' : MS} (a : FK S S') : SM S S' := ⟨fun i _ => by rw [a.1 0 (by decide) (by decide) (by decide) (by decide)], a.1 2 (by decide) (by decide) (by decide) (by decide), a.1 4 (by decide) (by decide) (by decide) (by decide), a.1 6 (by decide) (by decide) (by decide) (by decide), a.2 3 (by decide), a.2 5 (by decide), a.2 7 (by decide)⟩
theorem FK.e0 {S S' : MS} (a : FK S S') : S'.1 0 = S.1 0 := a.1 0 (by decide) (by decide) (by decide) (by decide)
section FY13
variable {S : MS} {n p w i : Nat} {E F : OD} {g : Nat → SP}
theorem ix16 {i j : Nat} (hi : i ≤ 120) (hj : j < 16) : ix (((16 : Int32) * I32 i) + I32 j) (16 * i + j) (mlen 13) := by
  have h13 : mlen 13 = 1936 := rfl
  rw [show (16 : Int32) = I32 16 from rfl, i32mul (by decide) (by omega) (by omega), i32add (by omega)]
  exact ix_of _ _ (by rw [h13]; omega) (by decide)
theorem m_isInside (hi : i ≤ 120) (r9 : rep 100000 (S.1 9) E) (r13 : rep 100000 (sub (S.1 13) (16 * i)) F) : ∃ v, P_X4_isInside 9 (0 : Int32) 13 ((16 : Int32) * I32 i) S = some v ∧ fl v (inside E F) := by
  obtain ⟨w, ew, fw⟩ := lp_and (Q := fun j => ole (E j) (F j)) (P := True) (x0 := 1) (B := fun z => P_X4_isInside_B6 9 (0 : Int32) 13 ((16 : Int32) * I32 i) z.1 z.2 S) 16 (by decide) (Or.inl ⟨rfl, True.intro⟩) (fun j hj x => by
    show ∃ y, P_X4_isInside_B6 9 (0 : Int32) 13 ((16 : Int32) * I32 i) x (I32 j) _ = _ ∧ _
    unfold P_X4_isInside_B6
    rw [if_neg (n16 hj)]
    by_cases hx : x = 0
    · rw [if_pos hx, i32s j (by omega)]
      exact ⟨0, rfl, fun _ => rfl, fun q => absurd hx q⟩
    · rw [if_neg hx, rd_i (show ix _ j (mlen 9) from ix0 (show j < 16 by omega) (by decide)), bind_some9, rd_i (ix16 hi hj), bind_some9, i32s j (by omega)]
      refine ⟨_, rfl, fun q => absurd q hx, fun _ => ?_⟩
      have q := rep1_lt n5 (r9 j hj) (rep_at r13 hj)
      by_cases z : S.1 13 (16 * i + j) < S.1 9 j
      · rw [if_pos z]
        exact Or.inr ⟨rfl, fun y => q.mpr y z⟩
      · rw [if_neg z]
        exact Or.inl ⟨rfl, q.mp z⟩) (fun x => by
    show P_X4_isInside_B6 9 (0 : Int32) 13 ((16 : Int32) * I32 i) x (I32 16) _ = _
    unfold P_X4_isInside_B6
    exact if_pos (by decide))
  refine ⟨w, ?_, fl_congr fw ⟨fun q => q.2, fun q => ⟨True.intro, q⟩⟩⟩
  unfold P_X4_isInside
  rw [ew, bind_some9, fl_okZ fw, bind_some9]
theorem m_isNew (M : MSt S n g) (W : SW n g) (r9 : rep 100000 (S.1 9) E) (hp : p ≤ 5) : ∃ v, P_X4_isNew (I32 p) S = some v ∧ fl v (¬ knw p E n g) := by
  obtain ⟨M1, M2, M3⟩ := M
  have pg : pgI S 16 = some (I32 n) := by
    unfold pgI
    rw [M1]
  obtain ⟨w, ew, fw⟩ := lp_and (Q := fun j => ¬ ((g j).1 = p ∧ inside E (g j).2.1)) (P := True) (x0 := 1) (B := fun z => P_X4_isNew_B4 (I32 p) z.1 z.2 S) n (by omega) (Or.inl ⟨rfl, True.intro⟩) (fun j hj x => by
    show ∃ y, P_X4_isNew_B4 (I32 p) x (I32 j) _ = _ ∧ _
    obtain ⟨q1, q2, q3⟩ := M3 j hj
    have hW := (W j hj).1
    unfold P_X4_isNew_B4
    rw [pg, bind_some9, if_neg (fun c => by rw [i32le (by omega) (by omega)] at c; omega)]
    by_cases hx : x = 0
    · rw [if_pos hx, i32s j (by omega)]
      exact ⟨0, rfl, fun _ => rfl, fun q => absurd hx q⟩
    · rw [if_neg hx, rd_i (show ix (I32 j) j (mlen 14) from ix_of j 121 (by omega) (by decide)), bind_some9, q1]
      by_cases e : (g j).1 = p
      · obtain ⟨v, ev, fv⟩ := m_isInside (show j ≤ 120 by omega) r9 q3
        rw [if_pos (by rw [e]), ev, bind_some9, i32s j (by omega)]
        refine ⟨_, rfl, fun q => absurd q hx, fun _ => ?_⟩
        exact fl_congr (show fl (if v = 0 then (1 : Int32) else (0 : Int32)) (v = 0) from fl_pos) ((fl_0 fv).trans ⟨fun a b => a b.2, fun a b => a ⟨e, b⟩⟩)
      · rw [if_neg (fun c => e (i32inj (by omega) (by omega) c)), i32s j (by omega)]
        exact ⟨_, rfl, fun q => absurd q hx, fun _ => Or.inl ⟨rfl, fun w => e w.1⟩⟩) (fun x => by
    show P_X4_isNew_B4 (I32 p) x (I32 n) _ = _
    unfold P_X4_isNew_B4
    rw [pg, bind_some9]
    exact if_pos (Int32.le_refl _))
  refine ⟨w, ?_, fl_congr fw ⟨fun q z => z.elim fun i y => q.2 i y.1 y.2, fun q => ⟨True.intro, fun j hj y => q ⟨j, hj, y⟩⟩⟩⟩
  unfold P_X4_isNew
  rw [ew, bind_some9, fl_okZ fw, bind_some9]
theorem m_adds (M : MSt S n g) (hn : n ≤ 120) (r9 : rep 100000 (S.1 9) E) : ∃ S', P_X4_adds (I32 p) (I32 w) S = some S' ∧ FK S S' ∧ MSt S' (n + 1) (fun i => if i = n then (p, E, w) else g i) := by
  obtain ⟨M1, M2, M3⟩ := M
  have h13 : mlen 13 = 1936 := rfl
  have e1 : P_X4_carries 9 (0 : Int32) 13 ((16 : Int32) * I32 n) S = some (mov S 9 0 13 (16 * n) 16) := m_carries (o := 0) S rfl (by rw [show (16 : Int32) = I32 16 from rfl, i32mul (by decide) (by omega) (by omega)]) (by decide) (by rw [h13]; omega) (by decide) (by decide) (Or.inl (by decide))
  have pg : ∀ X : MS, X.2.1 16 = S.2.1 16 → pgI X 16 = some (I32 n) := fun X hX => by
    unfold pgI
    rw [hX, M1]
  have i14 : ix (I32 n) n (mlen 14) := ix_of n 121 (by omega) (by decide)
  have i15 : ix (I32 n) n (mlen 15) := ix_of n 121 (by omega) (by decide)
  obtain ⟨S1, eS1⟩ : ∃ S1, S1 = mov S 9 0 13 (16 * n) 16 := ⟨_, rfl⟩
  have k1 : FK S S1 := by
    rw [eS1]
    exact (FK.rf S).a (Or.inr (Or.inl rfl)) _
  obtain ⟨S2, eS2⟩ : ∃ S2, S2 = setA S1 14 (upd (S1.1 14) n (I32 p)) := ⟨_, rfl⟩
  have k2 : FK S S2 := by
    rw [eS2]
    exact k1.a (Or.inr (Or.inr (Or.inl rfl))) _
  obtain ⟨S3, eS3⟩ : ∃ S3, S3 = setA S2 15 (upd (S2.1 15) n (I32 w)) := ⟨_, rfl⟩
  have k3 : FK S S3 := by
    rw [eS3]
    exact k2.a (Or.inr (Or.inr (Or.inr rfl))) _
  have i1 : S1.2.1 16 = S.2.1 16 := by rw [eS1]; rfl
  have i2 : S2.2.1 16 = S.2.1 16 := by rw [eS2]; exact i1
  have i3 : S3.2.1 16 = S.2.1 16 := by rw [eS3]; exact i2
  refine ⟨setI S3 16 (I32 (n + 1)), ?_, k3.i _, setI_get _ _ _, by omega, fun i hi => ?_⟩
  · unfold P_X4_adds
    rw [pg S rfl, bind_some9, e1, bind_some9, ← eS1, pg S1 i1, bind_some9, wr_i _ i14, bind_some9, ← eS2, pg S2 i2, bind_some9, wr_i _ i15, bind_some9, ← eS3, pg S3 i3, bind_some9, i32s n (by omega)]
    rfl
  · have a14 : (setI S3 16 (I32 (n + 1))).1 14 = upd (S.1 14) n (I32 p) := by
      show S3.1 14 = _
      rw [eS3, setA_ne _ _ (by decide), eS2, setA_get, eS1]
      show upd ((setA S 13 _).1 14) n (I32 p) = _
      rw [setA_ne _ _ (by decide)]
    have a15 : (setI S3 16 (I32 (n + 1))).1 15 = upd (S.1 15) n (I32 w) := by
      show S3.1 15 = _
      rw [eS3, setA_get, eS2, setA_ne _ _ (by decide), eS1]
      show upd ((setA S 13 _).1 15) n (I32 w) = _
      rw [setA_ne _ _ (by decide)]
    have a13 : (setI S3 16 (I32 (n + 1))).1 13 = fun i => if 16 * n ≤ i ∧ i < 16 * n + 16 then S.1 9 (0 + (i - 16 * n)) else S.1 13 i := by
      show S3.1 13 = _
      rw [eS3, setA_ne _ _ (by decide), eS2, setA_ne _ _ (by decide), eS1]
      exact setA_get _ _ _
    rw [a13, a14, a15]
    unfold upd
    show (if i = n then I32 p else S.1 14 i) = I32 (if i = n then ((p, E, w) : SP) else g i).1 ∧ (if i = n then I32 w else S.1 15 i) = I32 (if i = n then ((p, E, w) : SP) else g i).2.2 ∧ rep 100000 _ (if i = n then ((p, E, w) : SP) else g i).2.1
    by_cases e : i = n
    · subst e
      rw [if_pos rfl, if_pos rfl, if_pos rfl]
      refine ⟨rfl, rfl, fun j hj => ?_⟩
      show rep1 100000 (if 16 * i ≤ 16 * i + j ∧ 16 * i + j < 16 * i + 16 then S.1 9 (0 + (16 * i + j - 16 * i)) else S.1 13 (16 * i + j)) (E j)
      rw [if_pos (by omega), Nat.add_sub_cancel_left, Nat.zero_add]
      exact r9 j hj
    · rw [if_neg e, if_neg e, if_neg e]
      obtain ⟨q1, q2, q3⟩ := M3 i (by omega)
      refine ⟨q1, q2, fun j hj => ?_⟩
      show rep1 100000 (if 16 * n ≤ 16 * i + j ∧ 16 * i + j < 16 * n + 16 then S.1 9 (0 + (16 * i + j - 16 * n)) else S.1 13 (16 * i + j)) ((g i).2.1 j)
      rw [if_neg (by omega)]
      exact q3 j hj
end FY13
