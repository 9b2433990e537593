/-! ferries: staying -/
def okp (j : Nat) (u : Nat → Int32) (D : OD) : OD := fun m => if m % 4 = 3 ∧ m / 4 < j then omin (D m) (if u (m / 4) = 10 then none else some (u (m / 4)).toInt) else D m
theorem okp_0 (u : Nat → Int32) (D : OD) : okp 0 u D = D := funext fun m => if_neg (by omega)
theorem okp_s (j : Nat) (u : Nat → Int32) (D : OD) : oset (okp j u D) (4 * j + 3) (omin (okp j u D (4 * j + 3)) (if u j = 10 then none else some (u j).toInt)) = okp (j + 1) u D := funext fun m => by
  unfold oset okp
  by_cases q : m = 4 * j + 3
  · rw [if_pos q, if_neg (by omega), if_pos (show m % 4 = 3 ∧ m / 4 < j + 1 by omega), q, show (4 * j + 3) / 4 = j by omega]
  · rw [if_neg q]
    by_cases c : m % 4 = 3 ∧ m / 4 < j
    · rw [if_pos c, if_pos (show m % 4 = 3 ∧ m / 4 < j + 1 by omega)]
    · rw [if_neg c, if_neg (show ¬ (m % 4 = 3 ∧ m / 4 < j + 1) by omega)]
section FY1
variable {h : HH} {z b dk st p : Nat} {d : ZS} {D : OD} {f : Nat → Int32} {r : List Value}
theorem f_stay {c : Nat} (Cd : hF h dk = some (.inr (2, .ref st :: r))) (Hs : hF h st = some (.inl (0, 18, .inl f))) (hp : p < 6) (hc : c < 3) : F_X2_stay dk (I32 p) (I32 c) h = some (f (3 * p + c)) := by
  unfold F_X2_stay
  rw [v_getR Cd rfl, bind_some9, v_aldI Hs (ix3 p hp c hc), bind_some9]
theorem f_keeps (Cd : hF h dk = some (.inr (2, .ref st :: r))) (Hs : hF h st = some (.inl (0, 18, .inl f))) (hp : p < 6) (hf : ∀ i, i < 18 → isC 10 (f i)) (Z : ZA h z b d) (rd : rep 9999 d D) (ec : EC (okp 3 (fun c => f (3 * p + c)) D)) : ∃ d', F_X2_keeps dk (I32 p) (some z) h = some (pz b d' h) ∧ rep 9999 d' (otl (okp 3 (fun c => f (3 * p + c)) D) 4) := by
  have nb1 : dk ≠ b := fun w => by
    have := Z.2.1
    rw [← w, Cd] at this
    cases this
  have nb2 : st ≠ b := fun w => by
    have := Z.2.1
    rw [← w, Hs] at this
    cases this
  have at1 : ∀ e a, a ≠ b → hF (pz b e h) a = hF h a := fun e a n => hF_set_ne _ _ n
  have pp : ∀ e e', pz b e' (pz b e h) = pz b e' h := fun e e' => hset_set _ _ _ _
  obtain ⟨Y, eL, d', e2, rd'⟩ := lp_inv0 (B := fun y => F_X2_keeps_B2 dk (I32 p) (some z) y.1 y.2) (Q := fun Y => ∃ d', Y = pz b d' h ∧ rep 9999 d' (okp 3 (fun c => f (3 * p + c)) D)) (fuel := 100000) (x := ((0 : Int32), h)) (fun j y => y.1 = I32 j ∧ ∃ d', y.2 = pz b d' h ∧ rep 9999 d' (okp j (fun c => f (3 * p + c)) D)) 3 (fun j hj y hy => by
    obtain ⟨x, Y⟩ := y
    obtain ⟨e1, d1, e2, r1⟩ := hy
    have e1 : x = I32 j := e1
    have e3 : Y = pz b d1 h := e2
    clear e2
    subst e1
    subst e3
    have Z1 := Z.pz d1
    have S1 : F_X2_stay dk (I32 p) (I32 j) (pz b d1 h) = some (f (3 * p + j)) := f_stay (by rw [at1 _ _ nb1]; exact Cd) (by rw [at1 _ _ nb2]; exact Hs) hp hj
    have C1 : hF (pz b d1 h) dk = some (.inr (2, .ref st :: r)) := by rw [at1 _ _ nb1]; exact Cd
    have tl : ∀ x, F_X3_tells z (I32 j) (3 : Int32) x (pz b d1 h) = some (pz b (upd d1 (4 * j + 3) (gmin (d1 (4 * j + 3)) x)) h) := fun x => by
      rw [show F_X3_tells z (I32 j) (3 : Int32) x (pz b d1 h) = some (pz b (upd d1 (4 * j + 3) (gmin (d1 (4 * j + 3)) x)) (pz b d1 h)) from z_tells (i := j) (j := 3) (by omega) (by decide) Z1 x, pp]
    have rr : ∀ x, rep1 9999 x (if f (3 * p + j) = 10 then none else some (f (3 * p + j)).toInt) → rep 9999 (upd d1 (4 * j + 3) (gmin (d1 (4 * j + 3)) x)) (okp (j + 1) (fun c => f (3 * p + c)) D) := fun x hx => by
      rw [← okp_s]
      exact rep_set r1 _ (rep1_cmin n9 (r1 (4 * j + 3) (by omega)) hx)
    obtain ⟨x, hx, eB⟩ : ∃ x, rep1 9999 x (if f (3 * p + j) = 10 then none else some (f (3 * p + j)).toInt) ∧ F_X2_keeps_B2 dk (I32 p) (some z) (I32 j) (pz b d1 h) = some (.inl (I32 (j + 1), pz b (upd d1 (4 * j + 3) (gmin (d1 (4 * j + 3)) x)) h)) := by
      by_cases q : f (3 * p + j) = (10 : Int32)
      · refine ⟨9999, by rw [if_pos q]; rfl, ?_⟩
        unfold F_X2_keeps_B2
        rw [if_neg (nge3 hj), v_isO C1, bind_some9, S1, bind_some9, if_pos q, v_isO Z1.1, bind_some9, tl, bind_some9, i32s j (by omega)]
      · refine ⟨f (3 * p + j), ?_, ?_⟩
        · rw [if_neg q]
          obtain ⟨n, hn, en⟩ := hf (3 * p + j) (by omega)
          refine ⟨rfl, ?_⟩
          rw [en, big_t (by omega)]
          omega
        · unfold F_X2_keeps_B2
          rw [if_neg (nge3 hj), v_isO C1, bind_some9, S1, bind_some9, if_neg q, bind_some9, S1, bind_some9, v_isO Z1.1, bind_some9, tl, bind_some9, i32s j (by omega)]
    exact ⟨_, eB, rfl, _, rfl, rr x hx⟩) (fun y hy => by
    obtain ⟨x, Y⟩ := y
    obtain ⟨e1, d1, e2, r1⟩ := hy
    have e1 : x = I32 3 := e1
    subst e1
    refine ⟨Y, ?_, d1, e2, r1⟩
    show F_X2_keeps_B2 dk (I32 p) (some z) (I32 3) Y = _
    unfold F_X2_keeps_B2
    exact if_pos (by decide)) ⟨rfl, d, Z.self.symm, by rw [okp_0]; exact rd⟩ (by decide)
  have Z2 := Z.pz d'
  refine ⟨gtl 9999 d' 4, ?_, ec.rep n9 rd'⟩
  unfold F_X2_keeps
  rw [eL, bind_some9, e2, v_isO Z2.1, bind_some9, z_tightens Z2, bind_some9, pp]
theorem m_staysIn {S : MS} (G : GoodS (S.1 0)) (hp : p < 6) (rd : rep 100000 d D) (ec : EC (okp 3 (fun c => S.1 0 (84 + (3 * p + c))) D)) : ∃ v t, P_X4_staysIn (I32 p) (setA S 9 d) = some (v, setA S 9 t) ∧ rep 100000 t (otl (okp 3 (fun c => S.1 0 (84 + (3 * p + c))) D) 4) ∧ fl v (nn (otl (okp 3 (fun c => S.1 0 (84 + (3 * p + c))) D) 4)) := by
  obtain ⟨Y, eL, d', e2, rd'⟩ := lp_inv0 (B := fun y => P_X4_staysIn_B2 (I32 p) y.1 y.2) (Q := fun Y => ∃ d', Y = setA S 9 d' ∧ rep 100000 d' (okp 3 (fun c => S.1 0 (84 + (3 * p + c))) D)) (fuel := 100000) (x := ((0 : Int32), setA S 9 d)) (fun j y => y.1 = I32 j ∧ ∃ d', y.2 = setA S 9 d' ∧ rep 100000 d' (okp j (fun c => S.1 0 (84 + (3 * p + c))) D)) 3 (fun j hj y hy => by
    obtain ⟨x, Y⟩ := y
    obtain ⟨e1, d1, e2, r1⟩ := hy
    have e1 : x = I32 j := e1
    have e3 : Y = setA S 9 d1 := e2
    clear e2
    subst e1
    subst e3
    have S1 : P_X4_stay (I32 p) (I32 j) (setA S 9 d1) = some (S.1 0 (84 + (3 * p + j))) := by
      unfold P_X4_stay
      rw [rd_i (show ix _ (84 + (3 * p + j)) (mlen 0) from ix84 p hp j hj), bind_some9, setA_ne _ _ (by decide)]
    have hix : ix (((4 : Int32) * I32 j) + (3 : Int32)) (4 * j + 3) (mlen 9) := ix43 (by omega)
    have rr : ∀ x, rep1 100000 x (omin (okp j (fun c => S.1 0 (84 + (3 * p + c))) D (4 * j + 3)) (if S.1 0 (84 + (3 * p + j)) = 10 then none else some (S.1 0 (84 + (3 * p + j))).toInt)) → rep 100000 (upd d1 (4 * j + 3) x) (okp (j + 1) (fun c => S.1 0 (84 + (3 * p + c))) D) := fun x hx => by
      rw [← okp_s]
      exact rep_set r1 _ hx
    unfold P_X4_staysIn_B2
    show ∃ z', (if (3 : Int32) ≤ I32 j then _ else _) = _ ∧ _
    rw [if_neg (nge3 hj), S1, bind_some9]
    by_cases q : S.1 0 (84 + (3 * p + j)) = (10 : Int32)
    · rw [if_pos q, rd_i hix, bind_some9, wr_i _ hix, bind_some9, setA_get, setA_set, i32s j (by omega)]
      refine ⟨_, rfl, rfl, _, rfl, rr _ ?_⟩
      rw [if_pos q]
      have : ∀ a : Option Int, omin a none = a := fun a => by cases a <;> rfl
      rw [this]
      exact r1 (4 * j + 3) (by omega)
    · rw [if_neg q, rd_i hix, bind_some9, wr_i _ hix, bind_some9, setA_get, setA_set, i32s j (by omega), less_min]
      refine ⟨_, rfl, rfl, _, rfl, rr _ ?_⟩
      rw [if_neg q]
      obtain ⟨n, hn, en⟩ := G.2.2.2.1 (3 * p + j) (by omega)
      refine rep1_cmin n5 (r1 (4 * j + 3) (by omega)) ⟨rfl, ?_⟩
      rw [en, big_t (by omega)]
      omega) (fun y hy => by
    obtain ⟨x, Y⟩ := y
    obtain ⟨e1, d1, e2, r1⟩ := hy
    have e1 : x = I32 3 := e1
    subst e1
    refine ⟨Y, ?_, d1, e2, r1⟩
    show P_X4_staysIn_B2 (I32 p) (I32 3) Y = _
    unfold P_X4_staysIn_B2
    exact if_pos (by decide)) ⟨rfl, d, rfl, by rw [okp_0]; exact rd⟩ (by decide)
  obtain ⟨v, t, et, rt, fv⟩ := m_tightens (K := 9) rfl S rd' ec.RG
  refine ⟨v, t, ?_, rt, fv⟩
  unfold P_X4_staysIn
  rw [eL, bind_some9, e2, et, pb2_s, fl_okZ fv, bind_some9]
end FY1
