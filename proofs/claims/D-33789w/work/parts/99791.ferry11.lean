/-! ferries: a line from a stop, the component's side -/
def too (s : Nat → Int32) (l : Nat) : Nat := (s (104 + 9 * l)).toNatClampNeg
noncomputable def oline (s : Nat → Int32) (e : SP) (l : Nat) (st : Nat × (Nat → SP)) : Nat × (Nat → SP) :=
  if s (103 + 9 * l) = I32 e.1 then
    match ogoes s l (too s l) e.2.1 with
    | none => st
    | some E => if bq (knw (too s l) E st.1 st.2) then st else (st.1 + 1, fun i => if i = st.1 then (too s l, E, e.2.2 + 1) else st.2 i)
  else st
section FY11
variable {s : Nat → Int32} {l p n : Nat} {T E : OD} {e : SP} {g : Nat → SP} {st : Nat × (Nat → SP)}
theorem ogoes_n1 (h : ¬ nn (oE1 s l T)) : ogoes s l p T = none := by
  unfold ogoes
  rw [bq_f.mpr h]
  rfl
theorem ogoes_n3 (h1 : nn (oE1 s l T)) (h : ¬ nn (oE3 s p (oE2 s l T))) : ogoes s l p T = none := by
  unfold ogoes oarr
  rw [if_pos (bq_t.mpr h1), bq_f.mpr h]
  rfl
theorem ogoes_s (h1 : nn (oE1 s l T)) (h : nn (oE3 s p (oE2 s l T))) : ogoes s l p T = some (oE5 s p (oE3 s p (oE2 s l T))) := by
  unfold ogoes oarr
  rw [if_pos (bq_t.mpr h1), if_pos (bq_t.mpr h)]
theorem oline_ne (h : ¬ s (103 + 9 * l) = I32 e.1) : oline s e l st = st := by
  unfold oline
  rw [if_neg h]
theorem oline_none (ef : s (103 + 9 * l) = I32 e.1) (h : ogoes s l (too s l) e.2.1 = none) : oline s e l st = st := by
  unfold oline
  rw [if_pos ef, h]
theorem oline_known (ef : s (103 + 9 * l) = I32 e.1) (h : ogoes s l (too s l) e.2.1 = some E) (k : knw (too s l) E st.1 st.2) : oline s e l st = st := by
  unfold oline
  rw [if_pos ef, h]
  exact if_pos (bq_t.mpr k)
theorem oline_new (ef : s (103 + 9 * l) = I32 e.1) (h : ogoes s l (too s l) e.2.1 = some E) (k : ¬ knw (too s l) E st.1 st.2) : oline s e l st = (st.1 + 1, fun i => if i = st.1 then (too s l, E, e.2.2 + 1) else st.2 i) := by
  unfold oline
  rw [if_pos ef, h]
  exact if_neg (by rw [bq_f.mpr k]; decide)
theorem too_ok (hk : lineOK s l) : too s l ≤ 5 ∧ s (104 + 9 * l) = I32 (too s l) := by
  obtain ⟨k, h5, e⟩ := hk.2.1
  have : too s l = k := by
    unfold too
    rw [e]
    exact (ix_of k 20 (by omega) (by decide)).2.1
  rw [this]
  exact ⟨h5, e⟩
theorem ogoes_EB (hk : lineOK s l) (hc : ∀ i, i < 18 → isC 10 (s (84 + i))) (hp : p ≤ 5) (k : EB (-160) 27 T) (h : ogoes s l p T = some E) : EB (-160) 27 E := by
  by_cases n1 : nn (oE1 s l T)
  · by_cases n3 : nn (oE3 s p (oE2 s l T))
    · rw [ogoes_s n1 n3] at h
      cases h
      exact ((stp_ok (s := s) (p := p) (fun c h3 => hc (3 * p + c) (by omega)) ((goes_ok hk k).2 n1).2).2 n3).2.2.2.2.2
    · rw [ogoes_n3 n1 n3] at h
      cases h
  · rw [ogoes_n1 n1] at h
    cases h
theorem oline_or (hk : lineOK s l) (hc : ∀ i, i < 18 → isC 10 (s (84 + i))) (k : EB (-160) 27 e.2.1) : oline s e l (n, g) = (n, g) ∨ ∃ E, EB (-160) 27 E ∧ oline s e l (n, g) = (n + 1, fun i => if i = n then (too s l, E, e.2.2 + 1) else g i) := by
  by_cases ef : s (103 + 9 * l) = I32 e.1
  · cases h : ogoes s l (too s l) e.2.1 with
    | none => exact Or.inl (oline_none ef h)
    | some E =>
      by_cases kn : knw (too s l) E n g
      · exact Or.inl (oline_known (st := (n, g)) ef h kn)
      · exact Or.inr ⟨E, ogoes_EB hk hc (too_ok hk).1 k h, oline_new (st := (n, g)) ef h kn⟩
  · exact Or.inl (oline_ne ef)
theorem oline_SW {i n' : Nat} {g' : Nat → SP} (hk : lineOK s l) (hc : ∀ i, i < 18 → isC 10 (s (84 + i))) (W : SW n g) (hi : i < n) (h : oline s (g i) l (n, g) = (n', g')) : n ≤ n' ∧ n' ≤ n + 1 ∧ SW n' g' ∧ (∀ j, j < n → g' j = g j) ∧ ∀ j, n ≤ j → j < n' → (g' j).2.2 = (g i).2.2 + 1 := by
  rcases oline_or (n := n) (g := g) hk hc (W i hi).2.1 with q | ⟨E, k, q⟩
  · rw [q] at h
    cases h
    exact ⟨Nat.le_refl _, Nat.le_succ _, W, fun _ _ => rfl, fun j h1 h2 => by omega⟩
  · rw [q] at h
    cases h
    refine ⟨Nat.le_succ _, Nat.le_refl _, fun j hj => ?_, fun j hj => if_neg (by omega), fun j h1 h2 => ?_⟩
    · show (if j = n then ((too s l, E, (g i).2.2 + 1) : SP) else g j).1 ≤ 5 ∧ EB (-160) 27 (if j = n then ((too s l, E, (g i).2.2 + 1) : SP) else g j).2.1 ∧ (if j = n then ((too s l, E, (g i).2.2 + 1) : SP) else g j).2.2 ≤ j
      by_cases ej : j = n
      · rw [if_pos ej]
        refine ⟨(too_ok hk).1, k, ?_⟩
        have := (W i hi).2.2
        show (g i).2.2 + 1 ≤ j
        omega
      · rw [if_neg ej]
        exact W j (by omega)
    · show (if j = n then ((too s l, E, (g i).2.2 + 1) : SP) else g j).2.2 = _
      rw [if_pos (show j = n by omega)]
end FY11
theorem v_stop {h : HH} (o : OKH h) (p w : Int32) (z : Nat) : F_X7_init (hSz h) p (some z) w (hpush h (.inr (5, [.int 0, .null, .int 0])) 3) = some (hpush h (.inr (5, [.int p, .ref z, .int w])) 3) := by
  unfold F_X7_init
  rw [show nnl (some (hSz h)) = some (hSz h) from rfl, bind_some9, v_put0 o (by show 0 < 3; decide), bind_some9]
  show Option.bind (putV (hpush h (.inr (5, [.int p, .null, .int 0])) 3) 5 1 (some (hSz h)) (.ref z)) _ = _
  rw [v_put0 o (by show 1 < 3; decide), bind_some9]
  show Option.bind (putV (hpush h (.inr (5, [.int p, .ref z, .int 0])) 3) 5 2 (some (hSz h)) (.int w)) _ = _
  rw [v_put0 o (by show 2 < 3; decide), bind_some9]
  rfl
/-- a desk for ferries: its stays and its lines -/
def DW (h : HH) (dk : Nat) (s : Nat → Int32) (N : Nat) (st al sh z : Nat) (w : Int32) (f : Nat → Int32) (ar cap : Nat) (q : Nat → Option Nat) (la le mo : Nat → Nat) : Prop := hF h dk = some (.inr (2, [.ref st, .ref al, .ref sh, .ref z, .int w])) ∧ hF h st = some (.inl (0, 18, .inl f)) ∧ (∀ i, i < 18 → f i = s (84 + i)) ∧ (∀ i, i < 18 → isC 10 (s (84 + i))) ∧ N ≤ 10 ∧ AL h al ar cap N q ∧ ∀ l, l < N → q l = some (la l) ∧ LR h s l (la l) (le l) (mo l) ∧ lineOK s l
section FYW
variable {h h' : HH} {dk N st alD sh z arD capD : Nat} {s f : Nat → Int32} {w : Int32} {qD : Nat → Option Nat} {la le mo : Nat → Nat}
theorem DW.gr {c k : Nat} (o : OKH h) (gr : Gr (fun a => a < hSz h) c k h h') (D : DW h dk s N st alD sh z w f arD capD qD la le mo) : DW h' dk s N st alD sh z w f arD capD qD la le mo := by
  obtain ⟨a, b, c, d, e, A, L⟩ := D
  have kx : KeepX (fun _ => False) h h' := KeepX.gr o gr
  exact ⟨kx.2.1 _ _ a id, kx.2.1 _ _ b id, c, d, e, A.keep kx id (fun _ _ => id), fun l hl => ⟨(L l hl).1, (L l hl).2.1.keep kx id id (by omega) (fun _ _ _ => rfl), (L l hl).2.2⟩⟩
theorem f_goes {h0 : HH} {c0 k0 al ar cap n i t l : Nat} {q : Nat → Option Nat} {g : Nat → SP} (o0 : OKH h0) (z0 : hz0 h0) (D : DW h0 dk s N st alD sh z w f arD capD qD la le mo) (gr : Gr (fun a => a < hSz h0) c0 k0 h0 h) (A : StL h al ar cap n q g) (W : SW n g) (hn : n ≤ 140) (hal : hSz h0 ≤ al) (har : cap ≠ 0 → hSz h0 ≤ ar) (hi : i < n) (ti : q i = some t) (hl : l < N) (m : Rm 4 220 h) : ∃ h' ar' cap' q' n' g', F_X2_goes dk (some t) (some (la l)) (some al) h = some h' ∧ oline s (g i) l (n, g) = (n', g') ∧ StL h' al ar' cap' n' q' g' ∧ (cap' ≠ 0 → hSz h0 ≤ ar') ∧ Gr (fun a => a < hSz h0) (2 + 2 * (n' - n)) (17 + 203 * (n' - n)) h h' ∧ ∀ j, j < n → q' j = q j := by
  have o := gr.ok
  have Dh := D.gr o0 gr
  obtain ⟨Cd, Hs, hs, hc, hN, AD, LD⟩ := id Dh
  obtain ⟨_, R1, hk⟩ := LD l hl
  obtain ⟨t', qt, zz, bb, dd, C, hb, Zt, rt⟩ := A.2 i hi
  rw [ti] at qt
  cases qt
  have hW := W i hi
  obtain ⟨t5, et⟩ := too_ok hk
  have gm : ∀ e, Gr (fun a => a < hSz h) 2 17 h (mkZ h e) := fun e => mkZ_gr o e (fun a q => q)
  have sub0 : ∀ a, a < hSz h0 → a < hSz h := fun a q => Nat.lt_of_lt_of_le q gr.2.2.2.1
  have gm0 : ∀ e, Gr (fun a => a < hSz h0) (2 + 2 * (n - n)) (17 + 203 * (n - n)) h (mkZ h e) := fun e => ((gm e).sub sub0).mono (by omega) (by omega)
  have Dm : ∀ e, DW (mkZ h e) dk s N st alD sh z w f arD capD qD la le mo := fun e => Dh.gr o (gm e)
  unfold F_X2_goes
  rw [v_getI R1.1 rfl, bind_some9, v_getI C rfl, bind_some9]
  by_cases ef : s (103 + 9 * l) = I32 (g i).1
  · rw [if_pos ef, v_getR C rfl, bind_some9, v_isO R1.1, bind_some9]
    obtain ⟨d1, e1, r1, r1'⟩ := f_taken o R1 (by omega) hk Zt rt hW.2.1 (m.mono (by decide) (by decide))
    have Z1 := mkZ_ZA o d1
    rw [e1, b2_s, v_isO Z1.1, bind_some9]
    by_cases hn1 : nn (oE1 s l (g i).2.1)
    · obtain ⟨v, ev, fv⟩ := z_hasNone Z1 (r1 hn1)
      have k2 := ((goes_ok hk hW.2.1).2 hn1).2
      have n2 : nn (oE2 s l (g i).2.1) := dg0_nn k2.1
      obtain ⟨Cd1, Hs1, _, _, _, _, LD1⟩ := Dm d1
      rw [ev, bind_some9, if_pos ((fl_0 fv).mpr (fun q => q n2)), v_getI (LD1 l hl).2.1.1 rfl, bind_some9, v_isO Cd1, bind_some9, et]
      rcases f_arrived Cd1 Hs1 hs (p := too s l) (by omega) hc Z1 (r1 hn1) k2 with ⟨hn3, d2, e2⟩ | ⟨hn3, d2, e2, r2⟩
      · rw [mkZ_pz] at e2
        rw [e2, b2_s]
        unfold F_X2_goes_T44
        rw [if_pos rfl]
        exact ⟨_, ar, cap, q, n, g, rfl, oline_none ef (ogoes_n3 hn1 hn3), A.gr o (gm d2), har, gm0 d2, fun _ _ => rfl⟩
      · rw [mkZ_pz] at e2
        rw [e2, b2_s]
        have A2 := A.gr o (gm d2)
        have Z2 := mkZ_ZA o d2
        obtain ⟨Cd2, Hs2, _, _, _, _, LD2⟩ := Dm d2
        obtain ⟨v3, e3, f3⟩ := f_isKnown A2 W (by omega) Z2 r2 t5
        unfold F_X2_goes_T44
        rw [if_neg (fun q => by cases q), v_getI (LD2 l hl).2.1.1 rfl, bind_some9, et, e3, bind_some9]
        by_cases kn : knw (too s l) (oE5 s (too s l) (oE3 s (too s l) (oE2 s l (g i).2.1))) n g
        · rw [if_neg (fun q => (fl_0 f3).mp q kn)]
          exact ⟨_, ar, cap, q, n, g, rfl, oline_known (st := (n, g)) ef (ogoes_s hn1 hn3) kn, A2, har, gm0 d2, fun _ _ => rfl⟩
        · have oH := (gm d2).ok
          have gp : ∀ x, Gr (fun a => a < hSz (mkZ h d2)) 1 3 (mkZ h d2) (hpush (mkZ h d2) x 3) := fun x => Gr.push oH x 3 (Nat.lt_irrefl _)
          have gh : ∀ x, Gr (fun a => a < hSz h) 3 20 h (hpush (mkZ h d2) x 3) := fun x => (gm d2).tr ((gp x).sub (fun a q => Nat.lt_of_lt_of_le q (gm d2).2.2.2.1))
          obtain ⟨_, _, _, _, _, _, LD3⟩ := Dh.gr o (gh (.inr (5, [.int 0, .null, .int 0])))
          have C3 : hF (hpush (mkZ h d2) (.inr (5, [.int 0, .null, .int 0])) 3) t = some (.inr (5, [.int (I32 (g i).1), .ref zz, .int (I32 (g i).2.2)])) := by rw [(gh _).2.1 t (o.lt C)]; exact C
          have m2 := m.gr (gm d2) (by decide) (by decide)
          have m3 := m.gr (gh (.inr (5, [.int (I32 (too s l)), .ref (hSz h), .int (I32 ((g i).2.2 + 1))]))) (by decide) (by decide)
          have hw := hW.2.2
          rw [if_pos ((fl_0 f3).mpr kn), v_newO (m2.mono (by decide) (by decide)), bind_some9, v_getI (LD3 l hl).2.1.1 rfl, bind_some9, et, v_getI C3 rfl, bind_some9, show nnl (some (hSz (mkZ h d2))) = some (hSz (mkZ h d2)) from rfl, bind_some9, i32s _ (by omega), v_stop oH, bind_some9]
          have oH2 := (gh (.inr (5, [.int (I32 (too s l)), .ref (hSz h), .int (I32 ((g i).2.2 + 1))]))).ok
          have A3 := A.gr o (gh (.inr (5, [.int (I32 (too s l)), .ref (hSz h), .int (I32 ((g i).2.2 + 1))])))
          have hz := z0.gr o0 (gr.tr ((gh (.inr (5, [.int (I32 (too s l)), .ref (hSz h), .int (I32 ((g i).2.2 + 1))]))).sub sub0)) (Nat.le_refl _)
          have alt : al < hSz h := A.1.1.elim fun mc q => o.lt q
          have szm : hSz (mkZ h d2) = hSz h + 1 + 1 := rfl
          have bm : hB (hpush (mkZ h d2) (.inr (5, [.int (I32 (too s l)), .ref (hSz h), .int (I32 ((g i).2.2 + 1))])) 3) ≤ hSz (mkZ h d2) := oH.2
          obtain ⟨h', ar', cap', q', e4, ga, A4, ha4, q4, qn⟩ := al_add oH2 A3.1 (by omega) hz (m3.mono (by decide) (by decide)) (hF_push_eq _ _ _) bm (show okst 2 5 = true by decide) (by omega)
          rw [A3.1.size.1, bind_some9, e4, b2_s]
          refine ⟨h', ar', cap', q', n + 1, _, rfl, oline_new (st := (n, g)) ef (ogoes_s hn1 hn3) kn, ⟨A4, fun j hj => ?_⟩, fun hc' => ?_, ?_, fun j hj => q4 j hj⟩
          · by_cases ej : j = n
            · subst ej
              refine ⟨_, qn, ?_⟩
              show StC h' _ (if j = j then _ else _)
              rw [if_pos rfl]
              have S0 : StC (hpush (mkZ h d2) (.inr (5, [.int (I32 (too s l)), .ref (hSz h), .int (I32 ((g i).2.2 + 1))])) 3) (hSz (mkZ h d2)) (too s l, oE5 s (too s l) (oE3 s (too s l) (oE2 s l (g i).2.1)), (g i).2.2 + 1) := ⟨hSz h, hSz h + 1, d2, hF_push_eq _ _ _, bm, Z2.gr (gp _) (oH.lt Z2.1) (oH.lt Z2.2.1), r2⟩
              exact S0.put oH2 A3.1 ga
            · obtain ⟨t2, e5, C2⟩ := A3.2 j (by omega)
              refine ⟨t2, by rw [q4 j (by omega)]; exact e5, ?_⟩
              show StC h' t2 (if j = n then _ else g j)
              rw [if_neg ej]
              exact C2.put oH2 A3.1 ga
          · rcases ha4 with ⟨w1, w2⟩ | w1
            · rw [w1]
              exact har w2
            · have w2 := gr.2.2.2.1
              have w3 : hSz (hpush (mkZ h d2) (.inr (5, [.int (I32 (too s l)), .ref (hSz h), .int (I32 ((g i).2.2 + 1))])) 3) = hSz h + 1 + 1 + 1 := rfl
              omega
          · refine (((gh _).sub sub0).tr (ga.sub (fun a (qa : a < hSz h0) => ⟨?_, ?_, ?_⟩))).mono (by omega) (by omega)
            · have w2 := gr.2.2.2.1
              have w3 : hSz (hpush (mkZ h d2) (.inr (5, [.int (I32 (too s l)), .ref (hSz h), .int (I32 ((g i).2.2 + 1))])) 3) = hSz h + 1 + 1 + 1 := rfl
              omega
            · omega
            · by_cases hcz : cap = 0
              · exact Or.inr hcz
              · have := har hcz
                exact Or.inl (by omega)
    · obtain ⟨v, ev, fv⟩ := z_hasNone Z1 (r1' hn1)
      rw [ev, bind_some9, if_neg (fun q => (fl_0 fv).mp q hn1)]
      unfold F_X2_goes_T44
      rw [if_pos rfl]
      exact ⟨_, ar, cap, q, n, g, rfl, oline_none ef (ogoes_n1 hn1), A.gr o (gm d1), har, gm0 d1, fun _ _ => rfl⟩
  · rw [if_neg ef]
    exact ⟨h, ar, cap, q, n, g, rfl, oline_ne ef, A, har, (Gr.rf o).mono (by omega) (by omega), fun _ _ => rfl⟩
end FYW
