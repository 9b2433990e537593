/-! texts: one order of the text, both sides -/
section TX6
variable {h h0 : HH} {S S0 : MS} {B r tr na len p k c0 s0 : Nat} {bg cs mn : Int32} {nm : Nat → Int32} {Bx : OD}
theorem j_step (o0 : OKH h0) (T0 : TC h0 B S0 len) (st : StB h0) (hb : rep 100000 (sub (S0.1 1) 0) Bx) (J : RJ h0 S0 B r tr na c0 s0 k h S p bg 0 cs mn nm) (hp : p < len) (m : Rm 20 300 h) : ∃ mn' S' h' p' bg' rs' cs' nm', P_X4_doesAll_B12 mn S = some (.inl (mn', S')) ∧ F_X8_isWell_B0 r h = some (.inl h') ∧ RJ h0 S0 B r tr na c0 s0 (k + 1) h' S' p' bg' rs' cs' mn' nm' ∧ p' ≤ p + 20 ∧ (rs' = 0 → p < p' ∧ p' ≤ 70) := by
  obtain ⟨g, R, hD, ⟨hr, hna⟩, ka, ki, h20, h27, _⟩ := J
  obtain ⟨D, G⟩ := hD rfl
  have T : TC h B S len := TC.gr o0 g (ka 6 (by decide) (by decide) (by decide)) (ki 7 (by decide)) T0
  have stH := StB.gr o0 g st
  obtain ⟨dk, kv, hi, tx, va, cap, ml, b, C, TQ⟩ := id T
  have l60 := TQ.2.2.2.2.1
  have h7 := TQ.2.2.2.2.2.2.2.1
  have hch : ∀ q, ∃ n, n < 127 ∧ chA len (S.1 6) q = I32 n := fun q => (chA_n TQ q).elim fun n w => ⟨n, w.1, w.2.1⟩
  obtain ⟨h1, p1, g1, R1⟩ := R.pBg g.ok (I32 p)
  have st1 := stH.gn R g1
  have T1 := T.gn R g1
  have sub0 : ∀ {X Y : HH}, GN r na X Y → Gr (fun a => a < hSz h0) 0 0 X Y := fun gg => gg.sub (fun a (q : a < hSz h0) => ⟨by omega, by omega⟩)
  have p27 : pgI S 27 = some (0 : Int32) := by
    unfold pgI
    rw [h27]
  have p20 : pgI S 20 = some (I32 p) := by
    unfold pgI
    rw [h20]
  have p7 : pgI S 7 = some (I32 len) := by
    unfold pgI
    rw [h7]
  have eW : ∀ h2, F_X8_one r h1 = some h2 → F_X8_isWell_B0 r h = some (.inl h2) := fun h2 e => by
    unfold F_X8_isWell_B0
    rw [v_getI R.1 rfl, bind_some9, if_pos rfl, v_getI R.1 rfl, bind_some9, v_getR R.1 rfl, bind_some9, v_getR C rfl, bind_some9, v_isO TQ.1, bind_some9, tx_len TQ, bind_some9, if_neg (fun c => by rw [i32le (by omega) (by omega)] at c; omega), bind_some9, p1, bind_some9, v_isO R1.1, bind_some9, e, bind_some9]
  have eO := f_one st1 T1 R1 hp
  cases hW : wL (S.1 6 p) with
  | none =>
    rw [hW] at eO
    obtain ⟨S1, eS1, kt, s21, s22, s20⟩ := m_order_no h20 h7 l60 hp hW
    obtain ⟨h2, p2, g2, R2⟩ := R1.pAt g1.ok (I32 p)
    obtain ⟨h3, p3, g3, R3⟩ := R2.pRs g2.ok 1
    obtain ⟨h4, p4, g4, R4⟩ := R3.pCs g3.ok (I32 p - I32 p)
    refine ⟨mn, setI (setI S1 27 1) 28 (S1.2.1 20 - S1.2.1 21), h4, p, I32 p, 1, I32 p - I32 p, nm, ?_, eW h4 ?_, ⟨(((g.tr (sub0 g1)).tr (sub0 g2)).tr ((sub0 g3).tr (sub0 g4))).mono (by omega) (by omega), R4, fun w => absurd w (by decide), ⟨hr, hna⟩, fun K k1 k2 k3 => (kt.1 K).trans (ka K k1 k2 k3), fun K hK => ?_, ?_, ?_, fun _ => ⟨?_, ?_⟩⟩, by omega, fun w => absurd w (by decide)⟩
    · unfold P_X4_doesAll_B12
      rw [p27, bind_some9, if_pos rfl, p20, bind_some9, p7, bind_some9, if_neg (fun c => by rw [i32le (by omega) (by omega)] at c; omega), eS1, bind_some9, show pgI S1 22 = some (0 : Int32) from by unfold pgI; rw [s22], bind_some9, if_pos rfl, t49_bad _ _ s22]
    · rw [eO]
      unfold F_X8_one_T62 wI
      rw [v_getI R1.1 rfl, bind_some9, if_neg (show ¬ (0 : Int32) ≤ -1 by decide), Int32.add_zero, p2, bind_some9, v_isO R2.1, bind_some9, f_form_no g2.ok, b2_s, if_pos rfl, p3, bind_some9, v_getI R3.1 rfl, bind_some9, v_getI R3.1 rfl, bind_some9, p4, bind_some9]
    · rw [setI_ne _ _ (by omega), setI_ne _ _ (by omega), kt.2 K (by omega)]
      exact ki K hK
    · rw [setI_ne _ _ (by decide), setI_ne _ _ (by decide)]
      exact s20
    · rw [setI_ne _ _ (by decide), setI_get]
    · rw [setI_get, s20, s21]
    · rw [setI_ne _ _ (by decide), setI_ne _ _ (by decide)]
      exact s21
  | some w =>
    rw [hW] at eO
    obtain ⟨hw, S1, eS1, ML1, dg⟩ := m_order h20 h7 l60 hp hch hW
    obtain ⟨posM, s20, pm, OM⟩ := ML1.out
    obtain ⟨kt, s21, s23, _⟩ := id ML1
    obtain ⟨h2, p2, g2, R2⟩ := R1.pAt g1.ok (I32 (p + 1))
    obtain ⟨v, h3, pos, nm', e3, g3, OC, pc, R3, dgc⟩ := f_form g2.ok (T1.gn R1 g2) (by omega) hw R2
    obtain ⟨rfl, ev⟩ := OutF_uniq OC OM
    have nw8 : nW w ≤ 6 := by
      unfold nW
      split <;> omega
    have p22 : pgI S1 22 = some v := by
      unfold pgI
      rw [← ev]
    have eM : ∀ y : Option ((Int32 × MS) ⊕ (Int32 × MS)), (if v = 0 then P_X4_doesAll_T49 mn (0 : Int32) S1 else pb2 (P_X4_doesOrder S1) fun v49 h48 => P_X4_doesAll_T49 mn v49 h48) = y → P_X4_doesAll_B12 mn S = y := fun y e => by
      unfold P_X4_doesAll_B12
      rw [p27, bind_some9, if_pos rfl, p20, bind_some9, p7, bind_some9, if_neg (fun c => by rw [i32le (by omega) (by omega)] at c; omega), eS1, bind_some9, p22, bind_some9]
      exact e
    have eF : ∀ y : Option HH, (if v = 0 then (Option.bind (putV h3 6 4 (some r) (.int (1 : Int32))) fun h25 => Option.bind (getI h25 6 2 (some r)) fun v26 => Option.bind (getI h25 6 3 (some r)) fun v27 => Option.bind (putV h25 6 5 (some r) (.int (v26 - v27))) fun h28 => some h28) else (thr (F_X1_done (some tr) (S.1 6 p) (some na) h3) (fun q17 h15 => if q17.2 = "FerryClocks$Refused" then (Option.bind (putV h15 6 4 (some r) (.int (2 : Int32))) fun h22 => Option.bind (getI h22 7 0 (some q17.1)) fun v23 => Option.bind (putV h22 6 5 (some r) (.int v23)) fun h24 => some h24) else none) (fun v16 h15 => Option.bind (getI h15 6 6 (some r)) fun v19 => Option.bind (putV h15 6 6 (some r) (.int (v19 + (1 : Int32)))) fun h20 => some h20))) = y → F_X8_one r h1 = y := fun y e => by
      rw [eO]
      unfold F_X8_one_T62 wI
      rw [v_getI R1.1 rfl, bind_some9, if_pos (show (0 : Int32) ≤ I32 w from (i32le (n := 0) (by decide) (by omega)).mpr (Nat.zero_le _)), i32s p (by omega), p2, bind_some9, v_isO R2.1, bind_some9, e3, b2_s, v_getR R3.1 rfl, bind_some9, v_getR R3.1 rfl, bind_some9]
      exact e
    have gT : Gr (fun a => a < hSz h0) (c0 + 20 * k) (s0 + 200 * k) h0 h3 := (((g.tr (sub0 g1)).tr (sub0 g2)).tr (sub0 g3)).mono (by omega) (by omega)
    rcases OM with ⟨v1, epos, tk⟩ | ⟨v0, i, i1, i2, i3, i4⟩
    · have v1 : v = 1 := ev.trans v1
      subst v1
      have D3 : DRn na (hSz h0) h3 tr (S.1 0) := ((D.gn R R1 g1).gn R1 R2 g2).gn R2 R3 g3
      have k0 : S1.1 0 = S.1 0 := kt.1 0
      have m3 : Rm 20 300 h3 := by
        have mm := m.gr (((sub0 g1).tr (sub0 g2)).tr (sub0 g3)) (Nat.zero_le _) (Nat.zero_le _)
        exact mm
      obtain ⟨res, h4, u, S2, eF4, eM4, g4, sx, hc⟩ := n_done (na := na) (n := hSz h0) (t := tr) (S := S1) (lt := S.1 6 p) (nm := nm') (Bx := Bx) hW g3.ok (by rw [k0]; exact D3) (by rw [k0]; exact G) R3.2.1 (by rw [kt.1 1, ka 1 (by decide) (by decide) (by decide)]; exact hb) s23 (fun j hj => by rw [dg ev.symm j hj, dgc rfl j hj]) m3
      obtain ⟨_, _, _, _, Cd, _⟩ := id D3
      have ntr : r ≠ tr := fun w => by
        have := R3.1
        rw [w, Cd.1] at this
        cases this
      have nntr : na ≠ tr := fun w => by
        have := R3.2.1
        rw [w, Cd.1] at this
        cases this
      have R4 : Rd h4 r tr na B (I32 pos) (I32 p) 0 cs mn nm' := ⟨by rw [g4.2.1 r ⟨g3.ok.lt R3.1, ntr⟩]; exact R3.1, by rw [g4.2.1 na ⟨g3.ok.lt R3.2.1, nntr⟩]; exact R3.2.1, by rw [g4.b]; exact R3.2.2.1, by rw [g4.b]; exact R3.2.2.2⟩
      have htr : hSz h0 ≤ tr := by
        obtain ⟨_, _, _, _, _, q, _⟩ := D3
        exact q
      have g04 : Gr (fun a => a < hSz h0) (c0 + 20 * k + 20) (s0 + 200 * k + 200) h0 h4 := gT.tr (g4.sub (fun a (q : a < hSz h0) => ⟨Nat.lt_of_lt_of_le q gT.2.2.2.1, by omega⟩))
      have ka2 : ∀ K, K ≠ 0 → K ≠ 9 → K ≠ 10 → S2.1 K = S0.1 K := fun K k1 k2 k3 => ((sx.2 K k1 k2 k3).trans (kt.1 K)).trans (ka K k1 k2 k3)
      have ii : ∀ K, S2.2.1 K = S1.2.1 K := fun K => congrFun (congrArg Prod.fst sx.1) K
      have ki2 : ∀ K, K < 20 → S2.2.1 K = S0.2.1 K := fun K hK => ((ii K).trans (kt.2 K (by omega))).trans (ki K hK)
      have z22 : S2.2.1 22 = 1 := (ii 22).trans ev.symm
      have z20 : S2.2.1 20 = I32 pos := (ii 20).trans s20
      have z21 : S2.2.1 21 = I32 p := (ii 21).trans s21
      have z27 : S2.2.1 27 = 0 := ((ii 27).trans (kt.2 27 (by omega))).trans h27
      have bad : ∀ x : Int32, Ref res h4 x → u = (if x = 1 then -11 else -12) → (x = 1 ∨ x = 2) → ∃ mn' S' h' p' bg' rs' cs' nm', P_X4_doesAll_B12 mn S = some (.inl (mn', S')) ∧ F_X8_isWell_B0 r h = some (.inl h') ∧ RJ h0 S0 B r tr na c0 s0 (k + 1) h' S' p' bg' rs' cs' mn' nm' ∧ p' ≤ p + 20 ∧ (rs' = 0 → p < p' ∧ p' ≤ 70) := fun x rf ex hx => by
        obtain ⟨q, rfl, hq⟩ := rf
        obtain ⟨h5, p5, g5, R5⟩ := R4.pRs g4.ok 2
        obtain ⟨h6, p6, g6, R6⟩ := R5.pCs g5.ok x
        have hq5 : hF h5 q = some (.inr (7, [.int x])) := by
          rw [g5.2.1 q ⟨fun w => ?_, fun w => ?_⟩]
          · exact hq
          · rw [w, R4.1] at hq
            cases hq
          · rw [w, R4.2.1] at hq
            cases hq
        have eT : P_X4_doesAll_T49 mn u S2 = some (.inl (mn, setI (setI S2 27 2) 28 x)) := by
          rcases hx with rfl | rfl
          · rw [if_pos rfl] at ex
            rw [ex]
            exact t49_11 mn z22
          · rw [if_neg (by decide)] at ex
            rw [ex]
            exact t49_12 mn z22
        refine ⟨mn, setI (setI S2 27 2) 28 x, h6, pos, I32 p, 2, x, nm', eM _ ?_, eW h6 (eF _ ?_), ⟨((g04.tr (sub0 g5)).tr (sub0 g6)).mono (by omega) (by omega), R6, fun w => absurd w (by decide), ⟨hr, hna⟩, ka2, fun K hK => ?_, ?_, ?_, fun _ => ⟨setI_get _ _ _, ?_⟩⟩, by omega, fun w => absurd w (by decide)⟩
        · rw [if_neg (by decide), eM4, pb2_s, eT]
        · rw [if_neg (by decide), eF4, thr_l]
          show (if ("FerryClocks$Refused" : String) = "FerryClocks$Refused" then _ else none) = _
          rw [if_pos rfl, p5, bind_some9, v_getI hq5 rfl, bind_some9, p6, bind_some9]
        · rw [setI_ne _ _ (by omega), setI_ne _ _ (by omega)]
          exact ki2 K hK
        · rw [setI_ne _ _ (by decide), setI_ne _ _ (by decide)]
          exact z20
        · rw [setI_ne _ _ (by decide), setI_get]
        · rw [setI_ne _ _ (by decide), setI_ne _ _ (by decide)]
          exact z21
      rcases hc with ⟨eu, rf⟩ | ⟨eu, rf⟩ | ⟨x, rfl, nf, D5, G5⟩
      · exact bad 1 rf eu (Or.inl rfl)
      · exact bad 2 rf eu (Or.inr rfl)
      · obtain ⟨h5, p5, g5, R5⟩ := R4.pMn g4.ok (mn + 1)
        refine ⟨mn + 1, S2, h5, pos, I32 p, 0, cs, nm', eM _ ?_, eW h5 (eF _ ?_), ⟨(g04.tr (sub0 g5)).mono (by omega) (by omega), R5, fun _ => ⟨D5.gn R4 R5 g5, G5⟩, ⟨hr, hna⟩, ka2, ki2, z20, z27, fun w => absurd rfl w⟩, by omega, fun _ => ⟨by omega, by omega⟩⟩
        · rw [if_neg (by decide), eM4, pb2_s, t49_ok _ _ z22 nf]
        · rw [if_neg (by decide), eF4, thr_r, v_getI R4.1 rfl, bind_some9, p5, bind_some9]
    · have v0 : v = 0 := ev.trans v0
      subst v0
      obtain ⟨h4, p4, g4, R4⟩ := R3.pRs g3.ok 1
      obtain ⟨h5, p5, g5, R5⟩ := R4.pCs g4.ok (I32 pos - I32 p)
      have z22 : S1.2.1 22 = 0 := ev.symm
      refine ⟨mn, setI (setI S1 27 1) 28 (S1.2.1 20 - S1.2.1 21), h5, pos, I32 p, 1, I32 pos - I32 p, nm', eM _ ?_, eW h5 (eF _ ?_), ⟨((gT.tr (sub0 g4)).tr (sub0 g5)).mono (by omega) (by omega), R5, fun w => absurd w (by decide), ⟨hr, hna⟩, fun K k1 k2 k3 => (kt.1 K).trans (ka K k1 k2 k3), fun K hK => ?_, ?_, ?_, fun _ => ⟨?_, ?_⟩⟩, by omega, fun w => absurd w (by decide)⟩
      · rw [if_pos rfl, t49_bad _ _ z22]
      · rw [if_pos rfl, p4, bind_some9, v_getI R4.1 rfl, bind_some9, v_getI R4.1 rfl, bind_some9, p5, bind_some9]
      · rw [setI_ne _ _ (by omega), setI_ne _ _ (by omega), kt.2 K (by omega)]
        exact ki K hK
      · rw [setI_ne _ _ (by decide), setI_ne _ _ (by decide)]
        exact s20
      · rw [setI_ne _ _ (by decide), setI_get]
      · rw [setI_get, s20, s21]
      · rw [setI_ne _ _ (by decide), setI_ne _ _ (by decide)]
        exact s21
/-- all orders of the text -/
theorem j_all (o0 : OKH h0) (T0 : TC h0 B S0 len) (st : StB h0) (hb : rep 100000 (sub (S0.1 1) 0) Bx) (J : RJ h0 S0 B r tr na c0 s0 0 h S 0 bg 0 cs mn nm) (m : Rm (c0 + 2000) (s0 + 20000) h0) : ∃ mn' S' h' p bg' rs' cs' nm' k, lp (fun z => P_X4_doesAll_B12 z.1 z.2) 100000 (mn, S) = some (mn', S') ∧ lp (fun z => F_X8_isWell_B0 r z) 100000 h = some h' ∧ k ≤ 95 ∧ RJ h0 S0 B r tr na c0 s0 k h' S' p bg' rs' cs' mn' nm' := by
  have l60 : len ≤ 60 := by
    obtain ⟨dk, kv, hi, tx, va, cap, ml, b, C, TQ⟩ := T0
    exact TQ.2.2.2.2.1
  obtain ⟨⟨mn', S'⟩, h', e1, e2, p, bg', rs', cs', nm', k, q1, q2⟩ := lp_two (B1 := fun z : Int32 × MS => P_X4_doesAll_B12 z.1 z.2) (B2 := fun z => F_X8_isWell_B0 r z) (Q := fun x Y => ∃ p bg rs cs nm k, k ≤ 95 ∧ RJ h0 S0 B r tr na c0 s0 k Y x.2 p bg rs cs x.1 nm) (fun x Y => ∃ p bg rs cs nm k, (k ≤ p ∨ (rs ≠ 0 ∧ k ≤ 71)) ∧ p ≤ 90 ∧ (rs = 0 → p ≤ 70) ∧ RJ h0 S0 B r tr na c0 s0 k Y x.2 p bg rs cs x.1 nm) (fun x => if x.2.2.1 27 = 0 then 200 - (x.2.2.1 20).toNatClampNeg else 0) (fun x Y hxy => by
    obtain ⟨mn1, S1⟩ := x
    obtain ⟨p, bg1, rs1, cs1, nm1, k, hk, hp, h70, J1⟩ := hxy
    have J1 : RJ h0 S0 B r tr na c0 s0 k Y S1 p bg1 rs1 cs1 mn1 nm1 := J1
    obtain ⟨g, R, hD, hrn, ka, ki, h20, h27, hz⟩ := id J1
    show (∃ x' y', P_X4_doesAll_B12 mn1 S1 = some (.inl x') ∧ F_X8_isWell_B0 r Y = some (.inl y') ∧ _ ∧ _) ∨ ∃ r1 r2, P_X4_doesAll_B12 mn1 S1 = some (.inr r1) ∧ F_X8_isWell_B0 r Y = some (.inr r2) ∧ _
    by_cases c1 : rs1 = 0
    · subst c1
      by_cases c2 : p < len
      · refine Or.inl ?_
        have hkp : k ≤ p := hk.elim id (fun w => absurd rfl w.1)
        obtain ⟨mn2, S2, h2, p2, bg2, rs2, cs2, nm2, e1, e2, J2, hp2, hrs⟩ := j_step o0 T0 st hb J1 c2 ((m.gr g (by omega) (by omega)).mono (by omega) (by omega))
        refine ⟨(mn2, S2), h2, e1, e2, ⟨p2, bg2, rs2, cs2, nm2, k + 1, ?_, by omega, fun w => (hrs w).2, J2⟩, ?_⟩
        · by_cases c3 : rs2 = 0
          · exact Or.inl (by have := (hrs c3).1; omega)
          · exact Or.inr ⟨c3, by omega⟩
        · show (if S2.2.1 27 = 0 then 200 - (S2.2.1 20).toNatClampNeg else 0) < (if S1.2.1 27 = 0 then 200 - (S1.2.1 20).toNatClampNeg else 0)
          rw [if_pos h27, h20, (ix_of p 200 (by omega) (by decide)).2.1, J2.2.2.2.2.2.2.1, (ix_of p2 200 (by omega) (by decide)).2.1, J2.2.2.2.2.2.2.2.1]
          by_cases c3 : rs2 = 0
          · rw [if_pos c3]
            have := (hrs c3).1
            omega
          · rw [if_neg c3]
            omega
      · refine Or.inr ⟨(mn1, S1), Y, ?_, ?_, p, bg1, 0, cs1, nm1, k, by rcases hk with w | w <;> omega, J1⟩
        · obtain ⟨dk, kv, hi, tx, va, cap, ml, b, C, TQ⟩ := TC.gr o0 g (ka 6 (by decide) (by decide) (by decide)) (ki 7 (by decide)) T0
          unfold P_X4_doesAll_B12 pgI
          rw [h27, bind_some9, if_pos rfl, h20, bind_some9, TQ.2.2.2.2.2.2.2.1, bind_some9, if_pos ((i32le (by omega) (by omega)).mpr (by omega))]
        · obtain ⟨dk, kv, hi, tx, va, cap, ml, b, C, TQ⟩ := TC.gr o0 g (ka 6 (by decide) (by decide) (by decide)) (ki 7 (by decide)) T0
          unfold F_X8_isWell_B0
          rw [v_getI R.1 rfl, bind_some9, if_pos rfl, v_getI R.1 rfl, bind_some9, v_getR R.1 rfl, bind_some9, v_getR C rfl, bind_some9, v_isO TQ.1, bind_some9, tx_len TQ, bind_some9, if_pos ((i32le (by omega) (by omega)).mpr (by omega))]
    · refine Or.inr ⟨(mn1, S1), Y, ?_, ?_, p, bg1, rs1, cs1, nm1, k, by rcases hk with w | w; (· omega); (· omega), J1⟩
      · unfold P_X4_doesAll_B12 pgI
        rw [h27, bind_some9, if_neg c1]
      · unfold F_X8_isWell_B0
        rw [v_getI R.1 rfl, bind_some9, if_neg c1]) 100000 (mn, S) h ⟨0, bg, 0, cs, nm, 0, Or.inl (Nat.le_refl _), by decide, fun _ => by decide, J⟩ (by
    show (if S.2.1 27 = 0 then 200 - (S.2.1 20).toNatClampNeg else 0) < 100000
    split <;> omega)
  exact ⟨mn', S', h', p, bg', rs', cs', nm', k, e1, e2, q1, q2⟩
end TX6
