/-! a line more in a list; getsLine -/
def LiP (n : Nat) (h : HH) (al : Nat) (s : Nat → Int32) (N ar cap : Nat) (q : Nat → Option Nat) (la le mo : Nat → Nat) : Prop := AL h al ar cap N q ∧ (∀ l, l < N → q l = some (la l) ∧ LR h s l (la l) (le l) (mo l)) ∧ (∀ l, l < N → ∀ l', l' < N → l ≠ l' → la l ≠ la l' ∧ le l ≠ le l' ∧ mo l ≠ mo l') ∧ (∀ l, l < N → ∀ l', l' < N → le l ≠ mo l') ∧ n ≤ al ∧ (cap ≠ 0 → n ≤ ar) ∧ ∀ l, l < N → n ≤ la l ∧ n ≤ le l ∧ n ≤ mo l
def xL : Nat × Nat → Prop := fun k => k = (0, 8) ∨ k.1 = 3
def hz0 (h : HH) : Prop := hF h (hSa h 0) = some (.inl (2, 0, .inr (.inr fun _ => none)))
theorem hz0.gr {h h' : HH} {c s n : Nat} (z : hz0 h) (o : OKH h) (g : Gr (fun a => a < n) c s h h') (hn : hSz h ≤ n) : hz0 h' := by
  unfold hz0
  rw [hSa_of g.1, g.2.1 _ (Nat.lt_of_lt_of_le (o.lt z) hn)]
  exact z
section LA
variable {n : Nat} {h : HH} {al N ar cap : Nat} {s : Nat → Int32} {q : Nat → Option Nat} {la le mo : Nat → Nat}
theorem li_add (o : OKH h) (L : LiP n h al s N ar cap q la le mo) (hN : N < 10) (z : hz0 h) (hn : n ≤ hSz h) (m : Rm 4 211 h) {x y r : Int32} {f g : Nat → Int32} (ex : x = s (103 + 9 * N)) (ey : y = s (104 + 9 * N)) (er : r = s (111 + 9 * N)) (ef : ∀ c, c < 3 → f c = s (105 + 9 * N + c)) (eg : ∀ c, c < 3 → g c = s (108 + 9 * N + c)) : ∃ h' ar' cap' q' la' le' mo', F_J2_add al (some (hSz h)) (mkL h x y r f g) = some (1, h') ∧ LiP n h' al s (N + 1) ar' cap' q' la' le' mo' ∧ Gr (fun a => a < hSz h ∧ a ≠ al ∧ (a ≠ ar ∨ cap = 0)) 4 211 h h' ∧ KeepX xL h h' := by
  obtain ⟨A, Ls, i1, i2, o1, o2, o3⟩ := L
  have g1 := mkL_gr (P := fun a => a < hSz h) o x y r f g (fun a q => q)
  have k1 : KeepX xL h (mkL h x y r f g) := KeepX.gr o g1
  have A1 : AL (mkL h x y r f g) al ar cap N q := AL.keep (X := fun _ => False) (KeepX.gr o g1) id (fun _ _ => id) A
  obtain ⟨⟨mc, Ca⟩, _⟩ := id A
  obtain ⟨_, _, Ra, _⟩ := id A
  have la1 := o.lt Ca
  have la2 := o.lt Ra
  obtain ⟨h', ar', cap', q', e, g2, A2, hor, hq, hqN⟩ := al_add (e := hSz h) g1.ok A1 (by omega) (z.gr o g1 (Nat.le_refl _)) (m.gr g1 (by decide) (by decide)) (mkL_0 h x y r f g) o.2 rfl (by omega)
  have gg : Gr (fun a => a < hSz h ∧ a ≠ al ∧ (a ≠ ar ∨ cap = 0)) 4 211 h h' := (g1.sub (fun a q => q.1)).tr (g2.sub (fun a q => ⟨Nat.lt_of_lt_of_le q.1 g1.2.2.2.1, q.2⟩))
  have keep : ∀ a ec, hF h a = some ec → ¬ xL (kd ec) → hF h' a = some ec := fun a ec ha hx => by
    rw [gg.2.1 a ⟨o.lt ha, fun z => ?_, Or.inl (fun z => ?_)⟩]
    · exact ha
    · subst z
      rw [Ca] at ha
      cases ha
      exact hx (Or.inl rfl)
    · subst z
      rw [Ra] at ha
      cases ha
      exact hx (Or.inr rfl)
  have new : ∀ a, hSz h ≤ a → a < hSz h + 3 → hF h' a = hF (mkL h x y r f g) a := fun a h1 h2 => g2.2.1 a ⟨h2, by omega, Or.inl (by omega)⟩
  have kx : KeepX xL h h' := by
    refine ⟨gg.1, keep, fun a c fs ha => ?_⟩
    by_cases ea : a = al
    · subst ea
      rw [Ca] at ha
      cases ha
      obtain ⟨⟨mc', C'⟩, _⟩ := A2
      exact ⟨_, C'⟩
    · exact ⟨fs, by rw [gg.2.1 a ⟨o.lt ha, ea, Or.inl (fun z => by subst z; rw [Ra] at ha; cases ha)⟩]; exact ha⟩
  have n1 : ¬ xL (0, 4) := fun z => z.elim (fun w => by cases w) (fun w => by cases w)
  have n2 : ¬ xL (1, 3) := fun z => z.elim (fun w => by cases w) (fun w => by cases w)
  have lts : ∀ l, l < N → la l < hSz h ∧ le l < hSz h ∧ mo l < hSz h := fun l hl => by
    obtain ⟨X1, ⟨_, X2, _⟩, ⟨_, X3, _⟩, _⟩ := (Ls l hl).2
    exact ⟨o.lt X1, o.lt X2, o.lt X3⟩
  refine ⟨h', ar', cap', q', fun l => if l = N then hSz h else la l, fun l => if l = N then hSz h + 1 else le l, fun l => if l = N then hSz h + 2 else mo l, e, ⟨A2, fun l hl => ?_, fun l hl l' hl' ne => ?_, fun l hl l' hl' => ?_, o1, fun hc => ?_, fun l hl => ?_⟩, gg, kx⟩
  · show q' l = some (if l = N then hSz h else la l) ∧ LR h' s l (if l = N then hSz h else la l) (if l = N then hSz h + 1 else le l) (if l = N then hSz h + 2 else mo l)
    by_cases el : l = N
    · subst el
      rw [if_pos rfl, if_pos rfl, if_pos rfl]
      refine ⟨hqN, ?_, ⟨f, ?_, ef⟩, ⟨g, ?_, eg⟩, by rw [gg.b]; exact o.2, by rw [gg.b]; exact Nat.le_trans o.2 (by omega), by rw [gg.b]; exact Nat.le_trans o.2 (by omega)⟩
      · rw [new _ (by omega) (by omega), mkL_0, ex, ey, er]
      · rw [new _ (by omega) (by omega), mkL_1]
      · rw [new _ (by omega) (by omega), mkL_2]
    · rw [if_neg el, if_neg el, if_neg el]
      exact ⟨(hq l (by omega)).trans (Ls l (by omega)).1, (Ls l (by omega)).2.keep kx n1 n2 (by omega) (fun _ _ _ => rfl)⟩
  · show (if l = N then hSz h else la l) ≠ (if l' = N then hSz h else la l') ∧ (if l = N then hSz h + 1 else le l) ≠ (if l' = N then hSz h + 1 else le l') ∧ (if l = N then hSz h + 2 else mo l) ≠ (if l' = N then hSz h + 2 else mo l')
    by_cases e1 : l = N
    · have e2 : l' ≠ N := fun z => ne (e1.trans z.symm)
      have := lts l' (by omega)
      rw [if_pos e1, if_neg e2, if_pos e1, if_neg e2, if_pos e1, if_neg e2]
      omega
    · by_cases e2 : l' = N
      · have := lts l (by omega)
        rw [if_neg e1, if_pos e2, if_neg e1, if_pos e2, if_neg e1, if_pos e2]
        omega
      · rw [if_neg e1, if_neg e2, if_neg e1, if_neg e2, if_neg e1, if_neg e2]
        exact i1 l (by omega) l' (by omega) ne
  · show (if l = N then hSz h + 1 else le l) ≠ (if l' = N then hSz h + 2 else mo l')
    by_cases e1 : l = N
    · rw [if_pos e1]
      by_cases e2 : l' = N
      · rw [if_pos e2]
        omega
      · have := lts l' (by omega)
        rw [if_neg e2]
        omega
    · have := lts l (by omega)
      rw [if_neg e1]
      by_cases e2 : l' = N
      · rw [if_pos e2]
        omega
      · rw [if_neg e2]
        exact i2 l (by omega) l' (by omega)
  · rcases hor with ⟨e1, e2⟩ | e1
    · rw [e1]
      exact o2 e2
    · have := g1.2.2.2.1
      omega
  · show n ≤ (if l = N then hSz h else la l) ∧ n ≤ (if l = N then hSz h + 1 else le l) ∧ n ≤ (if l = N then hSz h + 2 else mo l)
    by_cases e1 : l = N
    · rw [if_pos e1, if_pos e1, if_pos e1]
      omega
    · rw [if_neg e1, if_neg e1, if_neg e1]
      exact o3 l (by omega)
end LA
section DZ
variable {n : Nat} {h : HH} {t : Nat} {s : Nat → Int32}
def linArg (a1 a2 : Int32) : Int32 := if F_X4_isHarbour a1 = 0 then (0 : Int32) else F_X4_isHarbour a2
theorem linArg_c (a1 a2 : Int32) : (if (F_X1_isHarbour a1) = 0 then (0 : Int32) else (if (F_X1_isHarbour a2) = 0 then (0 : Int32) else (1 : Int32))) = linArg a1 a2 := by
  unfold linArg
  rw [isHarbour_in, isHarbour_in, fl_id (isHarbour_fl a2)]
theorem linArg_fl (a1 a2 : Int32) : fl (linArg a1 a2) (isC 5 a1 ∧ isC 5 a2) := fl_if0 (isHarbour_fl a1) (fun _ => isHarbour_fl a2)
theorem xl2 : ¬ xL (0, 2) := fun z => z.elim (fun w => by cases w) (fun w => by cases w)
theorem xl3 : ¬ xL (0, 3) := fun z => z.elim (fun w => by cases w) (fun w => by cases w)
theorem xl16 : ¬ xL (1, 16) := fun z => z.elim (fun w => by cases w) (fun w => by cases w)
theorem xl18 : ¬ xL (1, 18) := fun z => z.elim (fun w => by cases w) (fun w => by cases w)
theorem xl44 : ¬ xL (4, 4) := fun z => z.elim (fun w => by cases w) (fun w => by cases w)
theorem a_getsLine (a1 a2 : Int32) (o : OKH h) (z : hz0 h) (R : DR n h t s) {N : Nat} (hN : s 102 = I32 N) (hN2 : N ≤ 10) (m : Rm 20 300 h) (hn : n ≤ hSz h) : ∃ res h', F_X2_getsLine t a1 a2 h = some (res, h') ∧ Gr (fun a => a < n) 20 300 h h' ∧ (¬ (isC 5 a1 ∧ isC 5 a2) → Ref res h' 1) ∧ (isC 5 a1 ∧ isC 5 a2 → (N = 10 → Ref res h' 2) ∧ (N < 10 → res = .inr (I32 N) ∧ ∀ s' : Nat → Int32, s' 102 = I32 (N + 1) → s' (103 + 9 * N) = a1 → s' (104 + 9 * N) = a2 → s' (111 + 9 * N) = 0 → (∀ c, c < 3 → s' (105 + 9 * N + c) = 0 ∧ s' (108 + 9 * N + c) = 10) → (∀ j, j < 194 → j ≠ 102 → j < 103 + 9 * N ∨ 112 + 9 * N ≤ j → s' j = s j) → DR n h' t s')) := by
  obtain ⟨st, al, sh, z0, C, ht, Z0, S, H, ⟨N', ar, cap, q, la, le, mo, e1, e2, A, L, i1, i2, o1, o2, o3⟩⟩ := R
  have hNN := i32inj (by omega) (by omega) (hN.symm.trans e1)
  subst hNN
  unfold F_X2_getsLine
  rw [linArg_c]
  rcases need_cases (k := 1) (linArg_fl a1 a2) o (m.mono (by decide) (by decide)) with ⟨nf, e⟩ | ⟨p, e⟩
  · rw [e, thr_l]
    exact ⟨_, _, rfl, ((gr_ref (t := hSz h) o 1).sub (fun a q => ⟨by omega, by omega⟩)).mono (by decide) (by decide), fun _ => ⟨_, rfl, hF_push_eq _ _ _⟩, fun q => absurd q nf⟩
  · rw [e, thr_r, v_getR C.1 rfl, bind_some9, A.size.1, bind_some9, A.size.2, bind_some9]
    by_cases h10 : N = 10
    · subst h10
      rw [if_pos (show (10 : Int32) ≤ I32 10 by decide), need_f rfl o (m.mono (by decide) (by decide)), thr_l]
      exact ⟨_, _, rfl, ((gr_ref (t := hSz h) o 2).sub (fun a q => ⟨by omega, by omega⟩)).mono (by decide) (by decide), fun q => absurd p q, fun _ => ⟨fun _ => ⟨_, rfl, hF_push_eq _ _ _⟩, fun q => absurd q (by omega)⟩⟩
    · have hN9 : N < 10 := by omega
      have hle : ¬ (10 : Int32) ≤ I32 N := fun q => by
        have : (I32 10) ≤ I32 N := q
        rw [i32le (by decide) (by omega)] at this
        omega
      rw [if_neg hle, need_t (by decide), thr_r, v_getR C.1 rfl, bind_some9, v_newO (m.mono (by decide) (by decide)), bind_some9, show nnl (some (hSz h)) = some (hSz h) from rfl, bind_some9, l_new o (m.mono (by decide) (by decide)), bind_some9]
      have sx : ∃ s1 : Nat → Int32, s1 (103 + 9 * N) = a1 ∧ s1 (104 + 9 * N) = a2 ∧ s1 (111 + 9 * N) = 0 ∧ (∀ c, c < 3 → s1 (105 + 9 * N + c) = 0 ∧ s1 (108 + 9 * N + c) = 10) ∧ ∀ j, j < 103 + 9 * N → s1 j = s j := ⟨fun j => if j < 103 + 9 * N then s j else if j = 103 + 9 * N then a1 else if j = 104 + 9 * N then a2 else if j < 108 + 9 * N then 0 else if j < 111 + 9 * N then 10 else 0, by
        show (if 103 + 9 * N < 103 + 9 * N then _ else _) = _
        rw [if_neg (by omega), if_pos rfl], by
        show (if 104 + 9 * N < 103 + 9 * N then _ else _) = _
        rw [if_neg (by omega), if_neg (by omega), if_pos rfl], by
        show (if 111 + 9 * N < 103 + 9 * N then _ else _) = _
        rw [if_neg (by omega), if_neg (by omega), if_neg (by omega), if_neg (by omega), if_neg (by omega)], fun c hc => ⟨by
        show (if 105 + 9 * N + c < 103 + 9 * N then _ else _) = _
        rw [if_neg (by omega), if_neg (by omega), if_neg (by omega), if_pos (by omega)], by
        show (if 108 + 9 * N + c < 103 + 9 * N then _ else _) = _
        rw [if_neg (by omega), if_neg (by omega), if_neg (by omega), if_neg (by omega), if_pos (by omega)]⟩, fun j hj => if_pos hj⟩
      obtain ⟨s1, w1, w2, w3, w4, w5⟩ := sx
      have t10 : ∀ c, c < 3 → tens 3 c = 10 := fun c hc => by
        rcases or3 hc with rfl | rfl | rfl <;> rfl
      obtain ⟨h', ar', cap', q', la', le', mo', e3, LP, gg, kx⟩ := li_add (n := n) (s := s1) o ⟨A, fun l hl => ⟨(L l hl).1, (L l hl).2.old rfl rfl rfl rfl (fun j hj => w5 _ (by omega))⟩, i1, i2, o1, o2, o3⟩ hN9 z hn (m.mono (by decide) (by decide)) (x := a1) (y := a2) (r := 0) (f := fun _ => 0) (g := tens 3) w1.symm w2.symm w3.symm (fun c hc => (w4 c hc).1.symm) (fun c hc => (t10 c hc).trans (w4 c hc).2.symm)
      have C1 : DC (mkL h a1 a2 0 (fun _ => 0) (tens 3)) t st al sh z0 (s 193) := C.gr (mkL_gr (P := fun a => a < hSz h) o a1 a2 0 (fun _ => 0) (tens 3) (fun a q => q)) (o.lt C.1)
      have A1 : AL (mkL h a1 a2 0 (fun _ => 0) (tens 3)) al ar cap N q := AL.keep (X := fun _ => False) (KeepX.gr o (mkL_gr (P := fun a => a < hSz h) o a1 a2 0 (fun _ => 0) (tens 3) (fun a q => q))) id (fun _ _ => id) A
      have C2 : DC h' t st al sh z0 (s 193) := ⟨kx.2.1 _ _ C.1 xl2, by rw [gg.b]; exact C.2⟩
      have ev : I32 (N + 1) - (1 : Int32) = I32 N := by
        have : ∀ N, N < 10 → I32 (N + 1) - (1 : Int32) = I32 N := by decide
        exact this N hN9
      rw [A1.size.1, bind_some9, e3, b2_s, v_getR C2.1 rfl, bind_some9, LP.1.size.1, bind_some9, LP.1.size.2, bind_some9, ev]
      refine ⟨_, _, rfl, (gg.sub (fun a hq => ⟨by omega, by omega, ?_⟩)).mono (by decide) (by decide), fun q => absurd p q, fun _ => ⟨fun q => absurd q h10, fun _ => ⟨rfl, fun s' u0 u1 u2 u3 u4 u5 => ?_⟩⟩⟩
      · by_cases hc : cap = 0
        · exact Or.inr hc
        · have := o2 hc
          exact Or.inl (by omega)
      · have ag : ∀ j, j < 193 → j ≠ 102 → j < 112 + 9 * N → s' j = s1 j := fun j h1 h2 h3 => by
          by_cases hj : j < 103 + 9 * N
          · rw [w5 j hj, u5 j (by omega) h2 (Or.inl hj)]
          · have hj9 : j = 103 + 9 * N ∨ j = 104 + 9 * N ∨ j = 111 + 9 * N ∨ (∃ c, c < 3 ∧ j = 105 + 9 * N + c) ∨ ∃ c, c < 3 ∧ j = 108 + 9 * N + c := by
              by_cases q1 : j < 108 + 9 * N
              · by_cases q2 : 105 + 9 * N ≤ j
                · exact Or.inr (Or.inr (Or.inr (Or.inl ⟨j - (105 + 9 * N), by omega, by omega⟩)))
                · omega
              · by_cases q2 : j < 111 + 9 * N
                · exact Or.inr (Or.inr (Or.inr (Or.inr ⟨j - (108 + 9 * N), by omega, by omega⟩)))
                · omega
            rcases hj9 with rfl | rfl | rfl | ⟨c, hc, rfl⟩ | ⟨c, hc, rfl⟩
            · rw [u1, w1]
            · rw [u2, w2]
            · rw [u3, w3]
            · rw [(u4 c hc).1, (w4 c hc).1]
            · rw [(u4 c hc).2, (w4 c hc).2]
        obtain ⟨A', L', i1', i2', o1', o2', o3'⟩ := LP
        refine ⟨st, al, sh, z0, by rw [u5 193 (by omega) (by omega) (by omega)]; exact C2, ht, (Z0.keep kx xl3 xl16).congr (Zs_congr (fun i hi => u5 _ (by omega) (by omega) (by omega))), S.keep kx xl18 (fun i h1 h2 => u5 i (by omega) (by omega) (by omega)), H.keep kx xl44 xl3 xl16 (fun i h1 h2 => u5 i (by omega) (by omega) (by omega)), N + 1, ar', cap', q', la', le', mo', u0, by omega, A', fun l hl => ⟨(L' l hl).1, (L' l hl).2.old rfl rfl rfl rfl (fun j hj => ag _ (by omega) (by omega) (by omega))⟩, i1', i2', o1', o2', o3'⟩
end DZ
