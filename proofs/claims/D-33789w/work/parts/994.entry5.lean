/-! the law's start: the invariant -/
def S00 : MS := (fun _ _ => 0, fun _ => 0, 0)
section E5
variable {h0 : HH} {d : ZS}
theorem pu_of {m : Nat} {ad : Nat → Nat} {S : MS} {X : HH} (W : WFM m ad X) (hm : hF X m = some (.inr (1, objM ad S))) (ha : ∀ K ∈ mvl, hF X (ad K) = some (.inl (0, mlen K, .inl (S.1 K)))) : X = pu m ad S X := by
  have hf : X.2.2.2 = (pu m ad S X).2.2.2 := by
    funext a
    show hF X a = hF (pu m ad S X) a
    by_cases h1 : a = m
    · subst h1
      rw [hF_pu_m, hm]
    · by_cases h2 : ∃ K ∈ mvl, ad K = a
      · obtain ⟨K, hK, rfl⟩ := h2
        rw [hF_pu_a W S hK, ha K hK]
      · exact (hF_pu_out h1 (fun K hK z => h2 ⟨K, hK, z⟩) S X).symm
  exact Prod.ext rfl (Prod.ext rfl (Prod.ext rfl hf))
theorem lm_F {j : Nat} : hF (LH h0 (LM h0 d) 19720) (hSz h0 + j) = (LM h0 d)[j]? := lh_F
theorem e_pu (E : EH h0) : LH h0 (LM h0 d) 19720 = pu (hSz h0 + 11) (adM (hSz h0)) S00 (LH h0 (LM h0 d) 19720) := by
  refine pu_of (WF (B := hSz h0) E.2.2) (lm_F (j := 11)) (fun K hK => ?_)
  rcases mvl_or hK with rfl | rfl | rfl | rfl | rfl | rfl | rfl | rfl | rfl | rfl | rfl | rfl
  · exact lm_F (j := 12)
  · exact lm_F (j := 13)
  · exact lm_F (j := 14)
  · exact lm_F (j := 15)
  · exact lm_F (j := 16)
  · exact lm_F (j := 17)
  · exact lm_F (j := 18)
  · exact lm_F (j := 19)
  · exact lm_F (j := 20)
  · exact lm_F (j := 21)
  · exact lm_F (j := 22)
  · exact lm_F (j := 23)
def st1 (k i : Nat) : Int32 := if 84 ≤ i ∧ i < 84 + k then 10 else fr16 (fun _ => 0) 16 i
def S10 (k : Nat) : MS := setA S00 0 (st1 k)
theorem e_fin (E : EH h0) : F_X4_init (hSz h0 + 11) (LH h0 (Lc h0 d ++ [.inr (1, [.null, .null, .null, .int 0, .null, .int 0, .null, .int 0, .int 0, .null, .null, .int 0, .long 0, .null, .null, .null, .int 0, .null, .null, .int 0, .int 0, .int 0, .int 0, .int 0, .int 0, .int 0, .int 0, .int 0, .int 0])]) 120) = some (pu (hSz h0 + 11) (adM (hSz h0)) (S10 18) (LH h0 (LM h0 d) 19720)) := by
  have W : WFM (hSz h0 + 11) (adM (hSz h0)) (LH h0 (LM h0 d) 19720) := WF (B := hSz h0) E.2.2
  have e1 : isO (LH h0 (LM h0 d) 19720) 1 (some (hSz h0 + 11)) = some (hSz h0 + 11) := v_isO (lm_F (j := 11))
  have e2 : F_X4_frees (hSz h0 + 11) (LH h0 (LM h0 d) 19720) = some (pu (hSz h0 + 11) (adM (hSz h0)) (S10 0) (LH h0 (LM h0 d) 19720)) := by
    have e := e_X4_frees W S00
    rw [← e_pu E, m_frees] at e
    rw [e]
    have f0 : st1 0 = fr16 (fun _ => 0) 16 := funext fun i => if_neg (by omega)
    unfold S10
    rw [f0]
    rfl
  have e3 : lp (fun z => F_X4_init_B113 (hSz h0 + 11) z.1 z.2) 100000 ((0 : Int32), pu (hSz h0 + 11) (adM (hSz h0)) (S10 0) (LH h0 (LM h0 d) 19720)) = some (pu (hSz h0 + 11) (adM (hSz h0)) (S10 18) (LH h0 (LM h0 d) 19720)) := by
    refine lp_for0 (fun j => (I32 j, pu (hSz h0 + 11) (adM (hSz h0)) (S10 j) (LH h0 (LM h0 d) 19720))) 18 (fun j hj => ?_) ?_ 100000 (by decide)
    · show F_X4_init_B113 (hSz h0 + 11) (I32 j) (pu (hSz h0 + 11) (adM (hSz h0)) (S10 j) (LH h0 (LM h0 d) 19720)) = _
      have fj : upd (st1 j) (84 + j) 10 = st1 (j + 1) := funext fun i => by
        unfold upd st1
        by_cases q : i = 84 + j
        · rw [if_pos q, if_pos (by omega)]
        · rw [if_neg q]
          by_cases q2 : 84 ≤ i ∧ i < 84 + j
          · rw [if_pos q2, if_pos (by omega)]
          · rw [if_neg q2, if_neg (by omega)]
      have hix : ix ((84 : Int32) + I32 j) (84 + j) (mlen 0) := by
        rw [show (84 : Int32) + I32 j = I32 (84 + j) from big_add 84 j]
        exact ix_of _ _ (show 84 + j < 194 by omega) (by decide)
      have ew : wr (S10 j) 0 ((84 : Int32) + I32 j) (10 : Int32) = some (S10 (j + 1)) := by
        rw [wr_i _ hix]
        unfold S10
        rw [setA_get, setA_set, fj]
      unfold F_X4_init_B113
      rw [if_neg (fun q => by have := (big_le (n := 18) (k := j) (by decide) (by omega)).mp q; omega), r_getR0, bind_some9, r_astI W _ (show 0 ∈ mvl by decide), ew]
      show Option.bind (some _) _ = _
      rw [bind_some9, i32s j (by omega)]
    · show F_X4_init_B113 (hSz h0 + 11) (I32 18) _ = _
      unfold F_X4_init_B113
      exact if_pos (Int32.le_refl _)
  rw [e_model E, e1, bind_some9, e2, bind_some9, e3, bind_some9]
end E5
