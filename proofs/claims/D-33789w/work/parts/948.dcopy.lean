/-! a desk once more -/
theorem a_stList {h : HH} (o : OKH h) : F_J2_init (hSz h) (hpush h (.inr (8, [.int 0, .null, .int 0])) 3) = some (hpush h (.inr (8, [.int 0, .ref (hSa h 0), .int 0])) 3) := by
  have e : F_J2_init (hSz h) (hpush h (.inr (8, [.int 0, .null, .int 0])) 3) = Option.bind (Option.bind (putV (hpush h (.inr (8, [.int 0, .null, .int 0])) 3) 8 0 (some (hSz h)) (.int 0)) some) fun h2 => Option.bind (putV h2 8 1 (some (hSz h)) (.ref (hSa h 0))) some := rfl
  rw [e, v_put0 o (by show 0 < 3; decide), bind_some9, bind_some9, v_put0 o (by show 1 < 3; decide), bind_some9]
  rfl
theorem al_0 {h : HH} {al : Nat} (C : hF h al = some (.inr (8, [.int 0, .ref (hSa h 0), .int 0]))) (hb : hB h ≤ al) (z : hz0 h) : AL h al (hSa h 0) 0 0 (fun _ => none) := ⟨⟨0, C⟩, hb, z, Nat.le_refl _, by decide, fun _ => rfl, fun q => absurd rfl q, fun i hi => absurd hi (Nat.not_lt_zero i)⟩
theorem gr_put9 {h X : HH} {c k t : Nat} {e e' : AC} (g : Gr (fun a => a < hSz h) c k h X) (q : hF X t = some e) (ht : hSz h ≤ t) : Gr (fun a => a < hSz h) c k h (hset X t e') := g.tr (Gr.set g.ok q (fun z => by have z : t < hSz h := z; omega))
/-- where the desk that is made has its cells, while its lines come -/
def CP (h : HH) (s : Nat → Int32) (f : Nat → Int32) (l : Nat) (X : HH) : Prop := Gr (fun a => a < hSz h) (10 + 4 * l) (100 + 211 * l) h X ∧ hF X (hSz h) = some (.inr (2, [.ref (hSz h + 5), .ref (hSz h + 1), .ref (hSz h + 2), .ref (hSz h + 3), .int 0])) ∧ hF X (hSz h + 5) = some (.inl (0, 18, .inl f)) ∧ hF X (hSz h + 2) = some (.inl (3, 4, .inr (.inr fun _ => none))) ∧ ∃ ar cap q la le mo, LiP (hSz h) X (hSz h + 1) s l ar cap q la le mo
theorem d_copy {n a : Nat} {h : HH} {s : Nat → Int32} (o : OKH h) (z : hz0 h) (R : DR n h a s) {N : Nat} (hN : s 102 = I32 N) (hN2 : N ≤ 10) (m : Rm 60 2500 h) : ∃ h', F_X2_init_2 (hSz h) (some a) (hpush h (.inr (2, [.null, .null, .null, .null, .int 0])) 5) = some h' ∧ Gr (fun a => a < hSz h) 60 2500 h h' ∧ DR (hSz h) h' (hSz h) s := by
  obtain ⟨st, al, sh, z0, C, ht, ⟨b0, d0, Z0, r0⟩, ⟨f, S, hbs, _, fs⟩, ⟨g, H, hbh, _, gs⟩, ⟨N', ar, cap, q, la, le, mo, e1, e2, A, L, i1, i2, _, _, _⟩⟩ := R
  have hNN := i32inj (by omega) (by omega) (hN.symm.trans e1)
  subst hNN
  obtain ⟨h7, eh7⟩ : ∃ h7, h7 = hpush (hpush (hpush h (.inr (2, [.null, .ref (hSz h + 1), .ref (hSz h + 2), .null, .int 0])) 5) (.inr (8, [.int 0, .ref (hSa h 0), .int 0])) 3) (.inl (3, 4, zeroA 3)) 4 := ⟨_, rfl⟩
  have g7 : Gr (fun a => a < hSz h) 3 12 h h7 := by
    rw [eh7]
    exact ((Gr.push (P := fun a => a < hSz h) o _ 5 (Nat.lt_irrefl _)).tr (Gr.push (P := fun a => a < hSz h) (o.push _ 5) _ 3 (fun q => by
      have q : hSz h + 1 < hSz h := q
      omega))).tr (Gr.push (P := fun a => a < hSz h) ((o.push _ 5).push _ 3) _ 4 (fun q => by
      have q : hSz h + 1 + 1 < hSz h := q
      omega))
  have sz7 : hSz h7 = hSz h + 3 := by rw [eh7]; rfl
  have c7t : hF h7 (hSz h) = some (.inr (2, [.null, .ref (hSz h + 1), .ref (hSz h + 2), .null, .int 0])) := by
    rw [eh7, hF_push_ne _ _ _ (show hSz h ≠ hSz h + 1 + 1 by omega), hF_push_ne _ _ _ (show hSz h ≠ hSz h + 1 by omega)]
    exact hF_push_eq _ _ _
  have c7a : hF h7 (hSz h + 1) = some (.inr (8, [.int 0, .ref (hSa h 0), .int 0])) := by
    rw [eh7, hF_push_ne _ _ _ (show hSz h + 1 ≠ hSz h + 1 + 1 by omega)]
    exact hF_push_eq _ _ _
  have c7s : hF h7 (hSz h + 2) = some (.inl (3, 4, .inr (.inr fun _ => none))) := by
    rw [eh7]
    exact hF_push_eq _ _ _
  have p7 : putV (hpush (hpush (hpush h (.inr (2, [.null, .ref (hSz h + 1), .null, .null, .int 0])) 5) (.inr (8, [.int 0, .ref (hSa h 0), .int 0])) 3) (.inl (3, 4, zeroA 3)) 4) 2 2 (some (hSz h)) (.ref (hSz h + 2)) = some h7 := by
    rw [v_put2 o (by show 2 < 5; decide), eh7]
    rfl
  have E7 : ∀ k : HH → Option HH, Option.bind (putV (hpush (hpush (hpush h (.inr (2, [.null, .ref (hSz h + 1), .null, .null, .int 0])) 5) (.inr (8, [.int 0, .ref (hSa h 0), .int 0])) 3) (.inl (3, 4, zeroA 3)) 4) 2 2 (some (hSz h)) (.ref (hSz h + 2))) k = k h7 := fun k => by rw [p7]; rfl
  have m7 := m.gr g7 (by decide) (by decide)
  obtain ⟨d, ez, _⟩ := z_init g7.ok.2 (m7.mono (by decide) (by decide))
  have g10 := mkZ_gr (P := fun a => a < hSz h7) g7.ok d (fun a q => q)
  have c10 : ∀ x ec, hF h7 x = some ec → hF (mkZ h7 d) x = some ec := fun x ec hx => by rw [g10.2.1 x (g7.ok.lt hx)]; exact hx
  have p10 : putV (mkZ h7 d) 2 3 (some (hSz h)) (va_rf (some (hSz h7))) = some (hset (mkZ h7 d) (hSz h) (.inr (2, [.null, .ref (hSz h + 1), .ref (hSz h + 2), .ref (hSz h7), .int 0]))) := v_putV (c10 _ _ c7t) (by show 3 < 5; decide) (by rw [g10.b, g7.b]; exact o.2)
  obtain ⟨h11, eh11⟩ : ∃ h11, h11 = hset (mkZ h7 d) (hSz h) (.inr (2, [.null, .ref (hSz h + 1), .ref (hSz h + 2), .ref (hSz h + 3), .int 0])) := ⟨_, rfl⟩
  have g11 : Gr (fun a => a < hSz h) 5 29 h h11 := by
    rw [eh11]
    exact gr_put9 (g7.tr (g10.sub (fun a q => Nat.lt_of_lt_of_le q g7.2.2.2.1))) (c10 _ _ c7t) (Nat.le_refl _)
  have sz11 : hSz h11 = hSz h + 5 := by rw [eh11]; show hSz h7 + 1 + 1 = _; omega
  have c11 : ∀ x ec, hF h7 x = some ec → x ≠ hSz h → hF h11 x = some ec := fun x ec hx n => by rw [eh11, hF_set_ne _ _ n]; exact c10 x ec hx
  have c11t : hF h11 (hSz h) = some (.inr (2, [.null, .ref (hSz h + 1), .ref (hSz h + 2), .ref (hSz h + 3), .int 0])) := by rw [eh11, hF_set_eq]
  have old : ∀ {X : HH} {c k : Nat}, Gr (fun a => a < hSz h) c k h X → ∀ x ec, hF h x = some ec → hF X x = some ec := fun {X c k} gX x ec hx => by rw [gX.2.1 x (o.lt hx)]; exact hx
  have m11 := m.gr g11 (by decide) (by decide)
  obtain ⟨h15, eh15⟩ : ∃ h15, h15 = hset (hpush h11 (.inl (0, 18, .inl f)) 18) (hSz h) (.inr (2, [.ref (hSz h + 5), .ref (hSz h + 1), .ref (hSz h + 2), .ref (hSz h + 3), .int 0])) := ⟨_, rfl⟩
  have n5 : hSz h ≠ hSz h11 := by omega
  have c13t : hF (hpush h11 (.inl (0, 18, .inl f)) 18) (hSz h) = some (.inr (2, [.null, .ref (hSz h + 1), .ref (hSz h + 2), .ref (hSz h + 3), .int 0])) := by rw [hF_push_ne _ _ _ n5]; exact c11t
  have g13 : Gr (fun a => a < hSz h) 6 47 h (hpush h11 (.inl (0, 18, .inl f)) 18) := g11.tr (Gr.push g11.ok _ 18 (fun q => by
    have q : hSz h11 < hSz h := q
    omega))
  have g15 : Gr (fun a => a < hSz h) 6 47 h h15 := by
    rw [eh15]
    exact gr_put9 g13 c13t (Nat.le_refl _)
  have p13 : putV (hpush h11 (.inl (0, 18, .inl f)) 18) 2 0 (some (hSz h)) (va_rf (some (hSz h11))) = some h15 := by
    rw [eh15, ← sz11]
    exact v_putV c13t (by show 0 < 5; decide) (by rw [g13.b]; exact o.2)
  have k13 : castA (hpush h11 (.inl (0, 18, .inl f)) 18) 0 (some (hSz h11)) = some () := v_castA (hF_push_eq _ _ _) (by rw [g13.b]; have := o.2; omega)
  have c15 : ∀ x ec, hF h7 x = some ec → x ≠ hSz h → hF h15 x = some ec := fun x ec hx n => by
    have := g7.ok.lt hx
    rw [eh15, hF_set_ne _ _ n, hF_push_ne _ _ _ (by omega)]
    exact c11 x ec hx n
  have CP0 : CP h s f 0 h15 := by
    refine ⟨g15.mono (by decide) (by decide), by rw [eh15, hF_set_eq], ?_, c15 _ _ c7s (by omega), hSa h 0, 0, fun _ => none, fun _ => 0, fun _ => 0, fun _ => 0, ?_⟩
    · rw [eh15, hF_set_ne _ _ (by omega), ← sz11]
      exact hF_push_eq _ _ _
    · have q1 : hSa h15 = hSa h := hSa_of g15.1
      have AA := al_0 (h := h15) (al := hSz h + 1) (by rw [q1]; exact c15 _ _ c7a (by omega)) (by rw [g15.b]; exact Nat.le_trans o.2 (by omega)) (z.gr o g15 (Nat.le_refl _))
      rw [q1] at AA
      exact ⟨AA, fun l hl => absurd hl (Nat.not_lt_zero l), fun l hl => absurd hl (Nat.not_lt_zero l), fun l hl => absurd hl (Nat.not_lt_zero l), by omega, fun q => absurd rfl q, fun l hl => absurd hl (Nat.not_lt_zero l)⟩
  have LP : ∃ X, lp (fun y => F_X2_init_2_B50 (hSz h) (some a) y.1 y.2) 100000 ((0 : Int32), h15) = some X ∧ CP h s f N X := by
    refine lp_inv0 (fun l y => y.1 = I32 l ∧ CP h s f l y.2) N (fun l hl y hy => ?_) (fun y hy => ?_) ⟨rfl, CP0⟩ (by omega)
    · obtain ⟨i, X⟩ := y
      obtain ⟨rfl, gX, T1, T2, T3, ar', cap', q', la', le', mo', LX⟩ := hy
      have gX : Gr (fun a => a < hSz h) (10 + 4 * l) (100 + 211 * l) h X := gX
      have CX := C.gr gX (o.lt C.1)
      have AX : AL X al ar cap N q := AL.keep (X := fun _ => False) (KeepX.gr o gX) id (fun _ _ => id) A
      have mX := m.gr gX (by omega) (by omega)
      have gp : Gr (fun a => a < hSz X) 1 5 X (hpush X (.inr (4, [.int 0, .int 0, .null, .null, .int 0])) 5) := Gr.push gX.ok _ 5 (Nat.lt_irrefl _)
      have CX2 := CX.gr gp (gX.ok.lt CX.1)
      have AX2 : AL (hpush X (.inr (4, [.int 0, .int 0, .null, .null, .int 0])) 5) al ar cap N q := AL.keep (X := fun _ => False) (KeepX.gr gX.ok gp) id (fun _ _ => id) AX
      obtain ⟨ql, RL⟩ := L l hl
      have RX : LR X s l (la l) (le l) (mo l) := LR.keep (X := fun _ => False) (KeepX.gr o gX) id id (by omega) (fun _ _ _ => rfl) RL
      obtain ⟨fl', gl', ec, ef, eg⟩ := l_copy gX.ok (mX.mono (by omega) (by omega)) RX
      obtain ⟨h', ar2, cap2, q2, la2, le2, mo2, e3, LP2, gg, kx⟩ := li_add gX.ok LX (by omega) (z.gr o gX (Nat.le_refl _)) gX.2.2.2.1 (mX.mono (by omega) (by omega)) rfl rfl rfl ef eg
      have cl : hF (hpush X (.inr (4, [.int 0, .int 0, .null, .null, .int 0])) 5) (la l) = some (.inr (4, [.int (s (103 + 9 * l)), .int (s (104 + 9 * l)), .ref (le l), .ref (mo l), .int (s (111 + 9 * l))])) := (by rw [hF_push_ne _ _ _ (gX.ok.ne RX.1)]; exact RX.1)
      have AM : AL (mkL X (s (103 + 9 * l)) (s (104 + 9 * l)) (s (111 + 9 * l)) fl' gl') (hSz h + 1) ar' cap' l q' := AL.keep (X := fun _ => False) (KeepX.gr gX.ok (mkL_gr (P := fun a => a < hSz X) gX.ok _ _ _ fl' gl' (fun a q => q))) id (fun _ _ => id) LX.1
      refine ⟨(I32 (l + 1), h'), ?_, rfl, ?_, kx.2.1 _ _ T1 xl2, kx.2.1 _ _ T2 xl18, kx.2.1 _ _ T3 xl44, ar2, cap2, q2, la2, le2, mo2, LP2⟩
      · show F_X2_init_2_B50 (hSz h) (some a) (I32 l) X = _
        unfold F_X2_init_2_B50
        rw [v_getR CX.1 rfl, bind_some9, AX.size.1, bind_some9, AX.size.2, bind_some9, if_neg (fun q => by rw [i32le (by omega) (by omega)] at q; omega), v_getR T1 rfl, bind_some9, v_newO (mX.mono (by omega) (by omega)), bind_some9, v_getR CX2.1 rfl, bind_some9, AX2.size.1, bind_some9, AX2.get hl (by omega), bind_some9, ql, v_castO cl, bind_some9, show nnl (some (hSz X)) = some (hSz X) from rfl, bind_some9, ec, bind_some9, AM.size.1, bind_some9, e3, b2_s, i32s l (by omega)]
      · have := gX.tr (gg.sub (P' := fun a => a < hSz h) (fun a hq => ⟨Nat.lt_of_lt_of_le hq gX.2.2.2.1, by have hq : a < hSz h := hq; omega, by
          by_cases hc : cap' = 0
          · exact Or.inr hc
          · have := LX.2.2.2.2.2.1 hc
            have hq : a < hSz h := hq
            exact Or.inl (by omega)⟩))
        exact this.mono (by omega) (by omega)
    · obtain ⟨i, X⟩ := y
      obtain ⟨rfl, hX⟩ := hy
      have CX := C.gr hX.1 (o.lt C.1)
      have AX : AL X al ar cap N q := AL.keep (X := fun _ => False) (KeepX.gr o hX.1) id (fun _ _ => id) A
      refine ⟨X, ?_, hX⟩
      show F_X2_init_2_B50 (hSz h) (some a) (I32 N) X = _
      unfold F_X2_init_2_B50
      rw [v_getR CX.1 rfl, bind_some9, AX.size.1, bind_some9, AX.size.2, bind_some9, if_pos (Int32.le_refl _)]
  obtain ⟨X, eX, gX, T1, T2, T3, ar', cap', q', la', le', mo', LX⟩ := LP
  have LS : ∃ Y, lp (fun y => F_X2_init_2_B95 (hSz h) (some a) y.1 y.2) 100000 ((0 : Int32), X) = some Y ∧ ∃ g', hF Y (hSz h + 2) = some (.inl (3, 4, .inr (.inr g'))) ∧ (∀ i, i < 4 → g' i = g i) ∧ Gr (fun a => a < hSz X ∧ a ≠ hSz h + 2) 0 0 X Y := by
    refine lp_inv0 (fun k y => y.1 = I32 k ∧ ∃ g', hF y.2 (hSz h + 2) = some (.inl (3, 4, .inr (.inr g'))) ∧ (∀ i, i < k → g' i = g i) ∧ Gr (fun a => a < hSz X ∧ a ≠ hSz h + 2) 0 0 X y.2) 4 (fun k hk y hy => ?_) (fun y hy => ?_) ⟨rfl, _, T3, fun i hi => absurd hi (Nat.not_lt_zero i), Gr.rf gX.ok⟩ (by decide)
    · obtain ⟨i, Y⟩ := y
      obtain ⟨rfl, g', T3', hg', gY⟩ := hy
      have gY : Gr (fun a => a < hSz X ∧ a ≠ hSz h + 2) 0 0 X Y := gY
      have gY2 : Gr (fun a => a < hSz h) (10 + 4 * N) (100 + 211 * N) h Y := gX.tr (gY.sub (fun a hq => ⟨Nat.lt_of_lt_of_le hq gX.2.2.2.1, by have hq : a < hSz h := hq; omega⟩))
      have CY := C.gr gY2 (o.lt C.1)
      have HY := old gY2 _ _ H
      have TY : hF Y (hSz h) = some (.inr (2, [.ref (hSz h + 5), .ref (hSz h + 1), .ref (hSz h + 2), .ref (hSz h + 3), .int 0])) := (by rw [gY.2.1 _ ⟨gX.ok.lt T1, by omega⟩]; exact T1)
      have hix := ix_of k 4 hk (by decide)
      have ok : okstH Y 3 (g k) = true := by
        rcases gs k hk with ⟨q1, _⟩ | ⟨zz, q1, _, b, d, Z, _⟩
        · rw [q1]
          rfl
        · rw [q1]
          exact v_okst (old gY2 _ _ Z.1) (by rw [gY2.b]; exact Z.2.2.1.1) rfl
      have ea := v_astR T3' hix (by rw [gY2.b]; exact Nat.le_trans o.2 (by omega)) ok (Or.inr rfl)
      refine ⟨_, by
        show F_X2_init_2_B95 (hSz h) (some a) (I32 k) Y = _
        unfold F_X2_init_2_B95
        rw [if_neg (zi3 k hk), v_getR TY rfl, bind_some9, v_getR CY.1 rfl, bind_some9, v_aldR HY hix, bind_some9, ea, bind_some9, zi4 k hk], rfl, _, hF_set_eq _ _ _, fun i hi => ?_, gY.tr (Gr.set gY.ok T3' (fun hq => hq.2 rfl))⟩
      unfold va_up
      by_cases ei : i = k
      · rw [if_pos ei, ei]
      · rw [if_neg ei]
        exact hg' i (by omega)
    · obtain ⟨i, Y⟩ := y
      obtain ⟨rfl, hY⟩ := hy
      exact ⟨Y, by
        show F_X2_init_2_B95 (hSz h) (some a) (I32 4) Y = _
        unfold F_X2_init_2_B95
        rw [if_pos (by decide)], hY⟩
  obtain ⟨Y, eY, g', T3', hg', gY⟩ := LS
  have gY2 : Gr (fun a => a < hSz h) (10 + 4 * N) (100 + 211 * N) h Y := gX.tr (gY.sub (fun a hq => ⟨Nat.lt_of_lt_of_le hq gX.2.2.2.1, by have hq : a < hSz h := hq; omega⟩))
  have TY : hF Y (hSz h) = some (.inr (2, [.ref (hSz h + 5), .ref (hSz h + 1), .ref (hSz h + 2), .ref (hSz h + 3), .int 0])) := by rw [gY.2.1 _ ⟨gX.ok.lt T1, by omega⟩]; exact T1
  have kY : KeepX (fun k => k = (4, 4)) X Y := KeepX.one gX.ok gY T3 T3' rfl rfl
  have Z0Y := Z0.gr gY2 (o.lt Z0.1) (o.lt Z0.2.1)
  have CY := C.gr gY2 (o.lt C.1)
  have mY := m.gr gY2 (by omega) (by omega)
  have g43 := mkZ_gr (P := fun a => a < hSz Y) gY.ok d0 (fun a q => q)
  have CY1 : DC (hpush Y (.inr (3, [.null])) 1) a st al sh z0 (s 193) := ⟨by rw [hF_push_ne _ _ _ (gY.ok.ne CY.1)]; exact CY.1, CY.2⟩
  have T43 : hF (mkZ Y d0) (hSz h) = some (.inr (2, [.ref (hSz h + 5), .ref (hSz h + 1), .ref (hSz h + 2), .ref (hSz h + 3), .int 0])) := by rw [g43.2.1 _ (gY.ok.lt TY)]; exact TY
  have hbY : hB (mkZ Y d0) ≤ hSz h := by rw [g43.b, gY2.b]; exact o.2
  have p44 : putV (mkZ Y d0) 2 3 (some (hSz h)) (va_rf (some (hSz Y))) = some (hset (mkZ Y d0) (hSz h) (.inr (2, [.ref (hSz h + 5), .ref (hSz h + 1), .ref (hSz h + 2), .ref (hSz Y), .int 0]))) := v_putV T43 (by show 3 < 5; decide) hbY
  have na : a ≠ hSz h := o.ne C.1
  have C44 : hF (hset (mkZ Y d0) (hSz h) (.inr (2, [.ref (hSz h + 5), .ref (hSz h + 1), .ref (hSz h + 2), .ref (hSz Y), .int 0]))) a = some (.inr (2, [.ref st, .ref al, .ref sh, .ref z0, .int (s 193)])) := by rw [hF_set_ne _ _ na, g43.2.1 _ (gY.ok.lt CY.1)]; exact CY.1
  have p46 : putV (hset (mkZ Y d0) (hSz h) (.inr (2, [.ref (hSz h + 5), .ref (hSz h + 1), .ref (hSz h + 2), .ref (hSz Y), .int 0]))) 2 4 (some (hSz h)) (.int (s 193)) = some (hset (hset (mkZ Y d0) (hSz h) (.inr (2, [.ref (hSz h + 5), .ref (hSz h + 1), .ref (hSz h + 2), .ref (hSz Y), .int 0]))) (hSz h) (.inr (2, [.ref (hSz h + 5), .ref (hSz h + 1), .ref (hSz h + 2), .ref (hSz Y), .int (s 193)]))) := v_putV (hF_set_eq _ _ _) (by show 4 < 5; decide) hbY
  rw [hset_set] at p46
  have gZ : Gr (fun a => a < hSz Y ∧ a ≠ hSz h) 2 17 Y (hset (mkZ Y d0) (hSz h) (.inr (2, [.ref (hSz h + 5), .ref (hSz h + 1), .ref (hSz h + 2), .ref (hSz Y), .int (s 193)]))) := (g43.sub (fun a hq => hq.1)).tr (Gr.set g43.ok T43 (fun hq => hq.2 rfl))
  have kZ : KeepX (fun k => k = (0, 2)) Y (hset (mkZ Y d0) (hSz h) (.inr (2, [.ref (hSz h + 5), .ref (hSz h + 1), .ref (hSz h + 2), .ref (hSz Y), .int (s 193)]))) := KeepX.one gY.ok gZ TY (hF_set_eq _ _ _) rfl rfl
  have Z1 := mkZ_ZA gY.ok d0
  have szY : hSz h ≠ hSz Y ∧ hSz h ≠ hSz Y + 1 := ⟨Ne.symm (Nat.ne_of_gt (gY.ok.lt TY)), by have := gY.ok.lt TY; omega⟩
  refine ⟨hset (mkZ Y d0) (hSz h) (.inr (2, [.ref (hSz h + 5), .ref (hSz h + 1), .ref (hSz h + 2), .ref (hSz Y), .int (s 193)])), ?_, (gY2.tr (gZ.sub (fun a hq => ⟨Nat.lt_of_lt_of_le hq gY2.2.2.2.1, by have hq : a < hSz h := hq; omega⟩))).mono (by omega) (by omega), hSz h + 5, hSz h + 1, hSz h + 2, hSz Y, ⟨hF_set_eq _ _ _, hbY⟩, Nat.le_refl _, ?_, ?_, ?_, ?_⟩
  · unfold F_X2_init_2
    rw [show nnl (some (hSz h)) = some (hSz h) from rfl, bind_some9, v_newO (rm_push m (by decide) (by decide)), bind_some9]
    show Option.bind (F_J2_init (hSz (hpush h (.inr (2, [.null, .null, .null, .null, .int 0])) 5)) (hpush (hpush h (.inr (2, [.null, .null, .null, .null, .int 0])) 5) (.inr (8, [.int 0, .null, .int 0])) 3)) _ = _
    rw [a_stList (o.push _ 5), bind_some9]
    show Option.bind (putV (hpush (hpush h (.inr (2, [.null, .null, .null, .null, .int 0])) 5) (.inr (8, [.int 0, .ref (hSa h 0), .int 0])) 3) 2 1 (some (hSz h)) (.ref (hSz h + 1))) _ = _
    rw [v_put1 o (by show 1 < 5; decide), bind_some9, v_newA (t := 3) (n := 4) (by decide) (by decide) (by decide) (rm_push (rm_push m (c' := 50) (s' := 2000) (by decide) (by decide)) (by decide) (by decide)), bind_some9]
    refine (E7 _).trans ?_
    rw [v_newO (m7.mono (by decide) (by decide)), bind_some9, show nnl (some (hSz h7)) = some (hSz h7) from rfl, bind_some9, ez, bind_some9, p10, bind_some9, sz7, ← eh11, v_getR (C.gr g11 (o.lt C.1)).1 rfl, bind_some9, v_cloneA (old g11 _ _ S) (by rw [g11.b]; exact hbs) (m11.mono (by decide) (by decide)), bind_some9, k13, bind_some9, p13, bind_some9, eX, bind_some9, eY, bind_some9, v_newO (mY.mono (by omega) (by omega)), bind_some9, v_getR CY1.1 rfl, bind_some9, show nnl (some (hSz Y)) = some (hSz Y) from rfl, bind_some9, z_init2 gY.ok Z0Y (mY.mono (by omega) (by omega)), bind_some9, p44, bind_some9, v_getI C44 rfl, bind_some9, p46, bind_some9]
  · exact ⟨hSz Y + 1, d0, ⟨by rw [hF_set_ne _ _ (Ne.symm szY.1)]; exact Z1.1, by rw [hF_set_ne _ _ (Ne.symm szY.2)]; exact Z1.2.1, Z1.2.2⟩, r0⟩
  · exact ⟨f, kZ.2.1 _ _ (kY.2.1 _ _ T2 (by intro w; cases w)) (by intro w; cases w), by rw [gZ.b, gY2.b]; exact Nat.le_trans o.2 (by omega), by omega, fs⟩
  · refine ⟨g', kZ.2.1 _ _ T3' (by intro w; cases w), by rw [gZ.b, gY2.b]; exact Nat.le_trans o.2 (by omega), by omega, fun k hk => ?_⟩
    rw [hg' k hk]
    rcases gs k hk with hq | ⟨zz, q1, q2, q3⟩
    · exact Or.inl hq
    · exact Or.inr ⟨zz, q1, q2, ZR.keep kZ (by decide) (by decide) (ZR.keep (X := fun _ => False) (KeepX.gr o gY2) id id q3)⟩
  · obtain ⟨A1, A2, A3, A4, A5, A6, A7⟩ := LX
    exact ⟨N, ar', cap', q', la', le', mo', e1, e2, (A1.keep kY (by decide) (fun n _ w => by cases w)).keep kZ (by decide) (fun n _ w => by cases w), fun l hl => ⟨(A2 l hl).1, (((A2 l hl).2.keep kY (by decide) (by decide) (by omega) (fun _ _ _ => rfl)).keep kZ (by decide) (by decide) (by omega) (fun _ _ _ => rfl))⟩, A3, A4, A5, A6, A7⟩
