/-! the acts on the zone, both sides -/
section JJ
variable {n : Nat} {h : HH} {t : Nat} {S : MS}
theorem j_tells (a1 a2 a3 : Int32) (o : OKH h) (hn : n ≤ hSz h) (R : DR n h t (S.1 0)) (G : GoodS (S.1 0)) (m : Rm 20 300 h) : JOp n h t S (F_X2_tells t a1 a2 a3 h) (P_X4_goTell a1 a2 a3 S) vr1 := by
  obtain ⟨st, al, sh, z0, C, ht, ⟨b0, d0, Z0, r0⟩, Sr, H, L⟩ := R
  obtain ⟨res, h', e, g, p1, p2⟩ := a_tells a1 a2 a3 o C Z0 r0 G.2.1 (m.mono (by decide) (by decide))
  obtain ⟨q1, q2⟩ := m_goTell a1 a2 a3 G.1 G.2.1
  by_cases hp : ∃ i j, tellP a1 a2 a3 i j
  · obtain ⟨i, j, p⟩ := hp
    obtain ⟨v, S', e2, sx, mo⟩ := q2 i j p
    refine j_zone o hn C ht Sr H L G e g (p2 i j p) e2 sx mo (hx_one (fun hk => ?_))
    obtain ⟨hi, hj, nij, _, _, hb⟩ := p
    have ec := EC_tell G.2.1 hi hj nij hb
    refine GZ.of_take (D := oplain) hk ec.1 ec.2.1 (fun k hk2 x hx => ?_)
    unfold otell oset at hx
    by_cases ek : k = 4 * i + j
    · rw [if_pos ek] at hx
      rcases omin_some hx with q | q
      · exact (G.2.1.2.2.1 _ (by omega) x q).1
      · cases q
        have := hb.1
        omega
    · rw [if_neg ek] at hx
      exact (G.2.1.2.2.1 _ hk2 x hx).1
  · exact j_arg e ((gr_pt g hn ht).mono (by decide) (by decide)) (p1 hp) (q1 hp)
theorem j_forgets (a1 a2 : Int32) (o : OKH h) (hn : n ≤ hSz h) (R : DR n h t (S.1 0)) (G : GoodS (S.1 0)) (m : Rm 20 300 h) : JOp n h t S (F_X2_forgets t a1 a2 h) (P_X4_goForget a1 a2 S) vr1 := by
  obtain ⟨st, al, sh, z0, C, ht, ⟨b0, d0, Z0, r0⟩, Sr, H, L⟩ := R
  obtain ⟨res, h', e, g, p1, p2⟩ := a_forgets a1 a2 o C Z0 r0 G.2.1 (m.mono (by decide) (by decide))
  obtain ⟨q1, q2⟩ := m_goForget a1 a2 G.1 G.2.1
  by_cases hp : isP a1 a2
  · obtain ⟨i, j, hi, hj, nij, e1, e2'⟩ := hp
    obtain ⟨v, S', e2, sx, mo⟩ := q2 i j hi hj nij e1 e2'
    refine j_zone o hn C ht Sr H L G e g (p2 i j hi hj nij e1 e2') e2 sx mo (hx_one (fun hk => ?_))
    have ec := EC_forget G.2.1 hi hj nij
    refine GZ.of_take (D := oplain) hk ec.1 ec.2.1 (fun k hk2 x hx => ?_)
    unfold oforget oset at hx
    by_cases ek : k = 4 * i + j
    · rw [if_pos ek] at hx
      split at hx <;> cases hx
      omega
    · rw [if_neg ek] at hx
      exact (G.2.1.2.2.1 _ hk2 x hx).1
  · exact j_arg e ((gr_pt g hn ht).mono (by decide) (by decide)) (p1 hp) (q1 hp)
theorem j_tightens {B : OD} (o : OKH h) (hn : n ≤ hSz h) (R : DR n h t (S.1 0)) (G : GoodS (S.1 0)) (hb : rep 100000 (sub (S.1 1) 0) B) (m : Rm 20 300 h) : JOp n h t S (F_X2_tightens t h) (P_X4_goTighten S) (vrB B (Zs (S.1 0) 0)) := by
  obtain ⟨st, al, sh, z0, C, ht, ⟨b0, d0, Z0, r0⟩, Sr, H, L⟩ := R
  obtain ⟨res, h', e, g, dO⟩ := a_tightens o C Z0 r0 G.2.1 (m.mono (by decide) (by decide))
  obtain ⟨v, S', e2, sx, mo⟩ := m_goTighten G.1 G.2.1 hb
  refine j_zone o hn C ht Sr H L G e g dO e2 sx mo ?_
  by_cases hn2 : nn (otl (Zs (S.1 0) 0) 4)
  · have T := G.2.1.Tt hn2
    rw [if_pos (bq_t.mpr hn2)]
    by_cases hk : takeOK (otl (Zs (S.1 0) 0) 4)
    · rw [sTake_t hk, if_pos (bq_t.mpr ⟨hn2, hk⟩)]
      exact Or.inr ⟨_, _, _, rfl, rfl, GZ_clo T.1 T.2.1 T.2.2.1 T.2.2.2.1 hk.2, dcnt_noF _ _, fun q => dcnt_congr q _ 16 (Nat.le_refl _)⟩
    · rw [sTake_f hk, bq_f.mpr (fun q => hk q.2)]
      exact Or.inl ⟨rfl, rfl⟩
  · rw [bq_f.mpr hn2, bq_f.mpr (fun q => hn2 q.1)]
    exact Or.inl ⟨rfl, rfl⟩
theorem j_resets (a1 a2 : Int32) (o : OKH h) (hn : n ≤ hSz h) (R : DR n h t (S.1 0)) (G : GoodS (S.1 0)) (m : Rm 20 300 h) : JOp n h t S (F_X2_resets t a1 a2 h) (P_X4_goReset a1 a2 S) vrE := by
  obtain ⟨st, al, sh, z0, C, ht, ⟨b0, d0, Z0, r0⟩, Sr, H, L⟩ := R
  obtain ⟨res, h', e, g, p1, p2⟩ := a_resets a1 a2 o C Z0 r0 G.2.1 (m.mono (by decide) (by decide))
  obtain ⟨q1, q2⟩ := m_goReset a1 a2 G.1 G.2.1
  by_cases hp : isC 2 a1 ∧ 0 ≤ a2.toInt ∧ a2.toInt ≤ 9
  · obtain ⟨⟨c, hc, e1⟩, hb⟩ := hp
    obtain ⟨v, S', e2, sx, mo⟩ := q2 c hc e1 hb
    exact j_zone o hn C ht Sr H L G e g (p2 c hc e1 hb) e2 sx mo (hx_work (fun hn2 => ⟨EC_reset (G.2.1.Tt hn2) (by omega) hb, nn_reset (G.2.1.Tt hn2) (by omega) _⟩) (fun hn2 k => ⟨had_noF (G.2.1.Tt hn2) (by omega), rfl⟩))
  · exact j_arg e ((gr_pt g hn ht).mono (by decide) (by decide)) (p1 hp) (q1 hp)
theorem j_delays (o : OKH h) (hn : n ≤ hSz h) (R : DR n h t (S.1 0)) (G : GoodS (S.1 0)) (m : Rm 20 300 h) : JOp n h t S (F_X2_delays t h) (P_X4_goDelay S) vrE := by
  obtain ⟨st, al, sh, z0, C, ht, ⟨b0, d0, Z0, r0⟩, Sr, H, L⟩ := R
  obtain ⟨res, h', e, g, dO⟩ := a_delays o C Z0 r0 G.2.1 (m.mono (by decide) (by decide))
  obtain ⟨v, S', e2, sx, mo⟩ := m_goDelay G.1 G.2.1
  exact j_zone o hn C ht Sr H L G e g dO e2 sx mo (hx_work (fun hn2 => ⟨EC_delay (G.2.1.Tt hn2), nn_delay (G.2.1.Tt hn2)⟩) (fun hn2 k => ⟨ocnt_noF _, rfl⟩))
theorem j_goesBack {B : OD} (o : OKH h) (hn : n ≤ hSz h) (R : DR n h t (S.1 0)) (G : GoodS (S.1 0)) (hb : rep 100000 (sub (S.1 1) 0) B) (m : Rm 20 300 h) : JOp n h t S (F_X2_goesBack t h) (P_X4_goWayBack S) (vrB B (Zs (S.1 0) 0)) := by
  obtain ⟨st, al, sh, z0, C, ht, ⟨b0, d0, Z0, r0⟩, Sr, H, L⟩ := R
  obtain ⟨res, h', e, g, dO⟩ := a_goesBack o C Z0 r0 G.2.1 (m.mono (by decide) (by decide))
  obtain ⟨v, S', e2, sx, mo⟩ := m_goWayBack G.1 G.2.1 hb
  exact j_zone o hn C ht Sr H L G e g dO e2 sx mo (hx_workB (fun hn2 => ⟨EC_back (G.2.1.Tt hn2), nn_back (G.2.1.Tt hn2)⟩) (fun k q => dcnt_congr q _ 16 (Nat.le_refl _)))
theorem j_frees {B : OD} (a1 : Int32) (o : OKH h) (hn : n ≤ hSz h) (R : DR n h t (S.1 0)) (G : GoodS (S.1 0)) (hb : rep 100000 (sub (S.1 1) 0) B) (m : Rm 20 300 h) : JOp n h t S (F_X2_frees t a1 h) (P_X4_goFree a1 S) (vrB B (Zs (S.1 0) 0)) := by
  obtain ⟨st, al, sh, z0, C, ht, ⟨b0, d0, Z0, r0⟩, Sr, H, L⟩ := R
  obtain ⟨res, h', e, g, p1, p2⟩ := a_frees a1 o C Z0 r0 G.2.1 (m.mono (by decide) (by decide))
  obtain ⟨q1, q2⟩ := m_goFree a1 G.1 G.2.1 hb
  by_cases hp : isC 2 a1
  · obtain ⟨c, hc, e1⟩ := hp
    obtain ⟨v, S', e2, sx, mo⟩ := q2 c hc e1
    exact j_zone o hn C ht Sr H L G e g (p2 c hc e1) e2 sx mo (hx_workB (fun hn2 => ⟨EC_free (G.2.1.Tt hn2) (by omega), nn_free (G.2.1.Tt hn2) (by omega)⟩) (fun k q => dcnt_congr q _ 16 (Nat.le_refl _)))
  · exact j_arg e ((gr_pt g hn ht).mono (by decide) (by decide)) (p1 hp) (q1 hp)
theorem j_copies (a1 a2 : Int32) (o : OKH h) (hn : n ≤ hSz h) (R : DR n h t (S.1 0)) (G : GoodS (S.1 0)) (m : Rm 20 300 h) : JOp n h t S (F_X2_copies t a1 a2 h) (P_X4_goCopy a1 a2 S) vrE := by
  obtain ⟨st, al, sh, z0, C, ht, ⟨b0, d0, Z0, r0⟩, Sr, H, L⟩ := R
  obtain ⟨res, h', e, g, p1, p2⟩ := a_copies a1 a2 o C Z0 r0 G.2.1 (m.mono (by decide) (by decide))
  obtain ⟨q1, q2⟩ := m_goCopy a1 a2 G.1 G.2.1
  by_cases hp : ∃ c f, cpyP a1 a2 c f
  · obtain ⟨c, f, p⟩ := hp
    obtain ⟨v, S', e2, sx, mo⟩ := q2 c f p
    obtain ⟨hc, hf, nf, _, _⟩ := id p
    exact j_zone o hn C ht Sr H L G e g (p2 c f p) e2 sx mo (hx_work (fun hn2 => by
      have T := G.2.1.Tt hn2
      have ec := EC_copy T hc hf
      exact ⟨ec, nn_clo (clo_copy (c := c) (f := f) T.2.1 (by omega) (by omega) T.1) ec.1⟩) (fun hn2 k => by
      have T := G.2.1.Tt hn2
      obtain ⟨x, ex, h0⟩ := T.2.2.1 f hf
      have := (T.2.2.2.2 _ (by omega) x ex).1
      exact ⟨oval_noF ex h0 (by omega), rfl⟩))
  · exact j_arg e ((gr_pt g hn ht).mono (by decide) (by decide)) (p1 hp) (q1 hp)
theorem j_shifts (a1 a2 : Int32) (o : OKH h) (hn : n ≤ hSz h) (R : DR n h t (S.1 0)) (G : GoodS (S.1 0)) (m : Rm 20 300 h) : JOp n h t S (F_X2_shifts t a1 a2 h) (P_X4_goShift a1 a2 S) vrE := by
  obtain ⟨st, al, sh, z0, C, ht, ⟨b0, d0, Z0, r0⟩, Sr, H, L⟩ := R
  obtain ⟨res, h', e, g, p1, p2⟩ := a_shifts a1 a2 o C Z0 r0 G.2.1 (m.mono (by decide) (by decide))
  obtain ⟨q1, q2⟩ := m_goShift a1 a2 G.1 G.2.1
  by_cases hp : isC 2 a1 ∧ 1 ≤ a2.toInt ∧ a2.toInt ≤ 9
  · obtain ⟨⟨c, hc, e1⟩, hb⟩ := hp
    obtain ⟨v, S', e2, sx, mo⟩ := q2 c hc e1 hb
    exact j_zone o hn C ht Sr H L G e g (p2 c hc e1 hb) e2 sx mo (hx_work (fun hn2 => by
      have T := G.2.1.Tt hn2
      have ec := EC_shift (c := c) T (by omega) hb
      exact ⟨ec, nn_clo (clo_shift (c := c) (b := a2.toInt) (by omega) T.1) ec.1⟩) (fun hn2 k => by
      have T := G.2.1.Tt hn2
      have ec := EC_shift (c := c) T (by omega) hb
      obtain ⟨x, ex, h0⟩ := ec.2.1 c (by omega)
      have h1 : -1000 ≤ x := by
        obtain ⟨y, ey, hy0⟩ := T.2.2.1 c (by omega)
        have h2 := (T.2.2.2.2 _ (by omega) y ey).1
        have e5 := shift_at (D := otl (Zs (S.1 0) 0) 4) (c := c) (b := a2.toInt) (by omega) (i := 3) (j := c) (by decide) (by omega)
        rw [show 4 * 3 + c = 12 + c by omega, ex, ey, if_neg (by omega), if_pos rfl] at e5
        have e5 : some x = some (y + (0 - a2.toInt)) := e5
        have := Option.some.inj e5
        omega
      exact ⟨oval_noF ex h0 h1, rfl⟩))
  · exact j_arg e ((gr_pt g hn ht).mono (by decide) (by decide)) (p1 hp) (q1 hp)
end JJ
