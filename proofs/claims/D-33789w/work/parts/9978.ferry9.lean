/-! ferries: a line taken, an arrival, the component's side -/
theorem okp_congr {u u' : Nat → Int32} (e : ∀ c, c < 3 → u c = u' c) (D : OD) : okp 3 u D = okp 3 u' D := funext fun m => by
  unfold okp
  by_cases q : m % 4 = 3 ∧ m / 4 < 3
  · rw [if_pos q, if_pos q, e _ q.2]
  · rw [if_neg q, if_neg q]
section FY9
variable {h : HH} {z b dk st p l ln le mo : Nat} {d : ZS} {D T : OD} {f s : Nat → Int32} {r : List Value}
theorem f_keepsS (Cd : hF h dk = some (.inr (2, .ref st :: r))) (Hs : hF h st = some (.inl (0, 18, .inl f))) (hs : ∀ i, i < 18 → f i = s (84 + i)) (hp : p < 6) (hc : ∀ i, i < 18 → isC 10 (s (84 + i))) (Z : ZA h z b d) (rd : rep 9999 d D) (ec : EC (okp 3 (st3 s p) D)) : ∃ d', F_X2_keeps dk (I32 p) (some z) h = some (pz b d' h) ∧ rep 9999 d' (oE3 s p D) := by
  have e : okp 3 (fun c => f (3 * p + c)) D = okp 3 (st3 s p) D := okp_congr (fun c hc => hs (3 * p + c) (by omega)) D
  have h1 := f_keeps Cd Hs hp (fun i hi => by rw [hs i hi]; exact hc i hi) Z rd (by rw [e]; exact ec)
  rw [e] at h1
  exact h1
theorem f_arrived (Cd : hF h dk = some (.inr (2, .ref st :: r))) (Hs : hF h st = some (.inl (0, 18, .inl f))) (hs : ∀ i, i < 18 → f i = s (84 + i)) (hp : p < 6) (hc : ∀ i, i < 18 → isC 10 (s (84 + i))) (Z : ZA h z b d) (rd : rep 9999 d D) (k : EB (-2560) 81 D) : (¬ nn (oE3 s p D) ∧ ∃ d', F_X2_arrived dk (I32 p) (some z) h = some (none, pz b d' h)) ∨ (nn (oE3 s p D) ∧ ∃ d', F_X2_arrived dk (I32 p) (some z) h = some (some z, pz b d' h) ∧ rep 9999 d' (oE5 s p (oE3 s p D))) := by
  obtain ⟨ec1, rest⟩ := stp_ok (s := s) (p := p) (fun c h3 => hc (3 * p + c) (by omega)) k
  have nb1 : dk ≠ b := fun w => by
    have := Z.2.1
    rw [← w, Cd] at this
    cases this
  have nb2 : st ≠ b := fun w => by
    have := Z.2.1
    rw [← w, Hs] at this
    cases this
  have at1 : ∀ e a, a ≠ b → hF (pz b e h) a = hF h a := fun e a n => hF_set_ne _ _ n
  have pp : ∀ e e', pz b e' (pz b e h) = pz b e' h := fun e e' => hset_set _ _ _ _
  have C1 : ∀ e, hF (pz b e h) dk = some (.inr (2, .ref st :: r)) := fun e => by rw [at1 _ _ nb1]; exact Cd
  have H1 : ∀ e, hF (pz b e h) st = some (.inl (0, 18, .inl f)) := fun e => by rw [at1 _ _ nb2]; exact Hs
  obtain ⟨d1, e1, r1⟩ := f_keepsS Cd Hs hs hp hc Z rd ec1
  obtain ⟨v, ev, fv⟩ := z_hasNone (Z.pz d1) r1
  unfold F_X2_arrived
  rw [v_isO Cd, bind_some9, e1, bind_some9, v_isO (Z.pz d1).1, bind_some9, ev, bind_some9]
  by_cases hn : nn (oE3 s p D)
  · refine Or.inr ⟨hn, ?_⟩
    obtain ⟨ec2, n4, dg, ec5, n5', _⟩ := rest hn
    obtain ⟨d2, e2, r2⟩ := z_delays (Z.pz d1) r1
    rw [pp] at e2
    obtain ⟨d3, e3, r3⟩ := f_keepsS (C1 d2) (H1 d2) hs hp hc (Z.pz d2) r2 ec2
    rw [pp] at e3
    obtain ⟨d4, e4, r4⟩ := z_widens (Z.pz d3) r3
    rw [pp] at e4
    have e5 := z_tightens (Z.pz d4)
    rw [pp] at e5
    rw [if_pos ((fl_0 fv).mpr (fun q => q hn)), bind_some9, e2, b2_s, v_isO (C1 d2), bind_some9, e3, bind_some9, v_isO (Z.pz d3).1, bind_some9, e4, bind_some9, v_isO (Z.pz d4).1, bind_some9, e5, bind_some9]
    exact ⟨_, rfl, ec5.rep n9 r4⟩
  · refine Or.inl ⟨hn, d1, ?_⟩
    rw [if_neg (fun q => (fl_0 fv).mp q hn)]
theorem f_taken (o : OKH h) (R : LR h s l ln le mo) (hl : l < 10) (hk : lineOK s l) (Z : ZA h z b d) (rd : rep 9999 d T) (k : EB (-160) 27 T) (m : Rm 2 17 h) : ∃ d', F_X5_taken ln (some z) h = some (some (hSz h), mkZ h d') ∧ (nn (oE1 s l T) → rep 9999 d' (oE2 s l T)) ∧ (¬ nn (oE1 s l T) → rep 9999 d' (oE1 s l T)) := by
  obtain ⟨ec, rest⟩ := goes_ok hk k
  have R' : ∀ e, LR (mkZ h e) s l ln le mo := fun e => LR.keep (X := fun _ => False) (KeepX.gr o (mkZ_gr (P := fun a => a < hSz h) o e (fun a q => q))) id id hl (fun _ _ _ => rfl) R
  have Zm : ∀ e, ZA (mkZ h e) (hSz h) (hSz h + 1) e := fun e => mkZ_ZA o e
  obtain ⟨d1, e1, r1⟩ := f_needs (R' d) hk (Zm d) rd (some z)
  rw [mkZ_pz] at e1
  have e2 := z_tightens (Zm d1)
  rw [mkZ_pz] at e2
  have r2 : rep 9999 (gtl 9999 d1 4) (oE1 s l T) := ec.rep n9 r1
  unfold F_X5_taken
  rw [v_newO (m.mono (by decide) (by decide)), bind_some9, show nnl (some (hSz h)) = some (hSz h) from rfl, bind_some9, z_init2 o Z m, bind_some9, e1, bind_some9, v_isO (Zm d1).1, bind_some9, e2, bind_some9]
  by_cases hn : nn (oE1 s l T)
  · obtain ⟨ec1, _⟩ := rest hn
    obtain ⟨d3, e3, r3⟩ := f_lresets (R' _) (Zm (gtl 9999 d1 4)) r2 ec1 (some z)
    rw [mkZ_pz] at e3
    rw [e3, bind_some9]
    exact ⟨d3, rfl, fun _ => r3, fun q => absurd hn q⟩
  · obtain ⟨v, ev, fv⟩ := z_hasNone (Zm (gtl 9999 d1 4)) r2
    have e3 : lp (fun y => F_X5_taken_B70 ln (some z) (some (hSz h)) y.1 y.2) 100000 ((0 : Int32), mkZ h (gtl 9999 d1 4)) = some (mkZ h (gtl 9999 d1 4)) := lp_for0 (B := fun y => F_X5_taken_B70 ln (some z) (some (hSz h)) y.1 y.2) (fun _ => ((0 : Int32), mkZ h (gtl 9999 d1 4))) 0 (fun j hj => absurd hj (Nat.not_lt_zero j)) (by
      show F_X5_taken_B70 ln (some z) (some (hSz h)) (0 : Int32) (mkZ h (gtl 9999 d1 4)) = _
      unfold F_X5_taken_B70
      rw [if_neg (by decide), v_isO (Zm _).1, bind_some9, ev, bind_some9, if_neg (fun q => (fl_0 fv).mp q hn)]) 100000 (by decide)
    rw [e3, bind_some9]
    exact ⟨_, rfl, fun q => absurd q hn, fun _ => r2⟩
end FY9
