/-! the desk's acts on lines -/
theorem v_castO {h : HH} {a c : Nat} {fs : List Value} (q : hF h a = some (.inr (c, fs))) : castO h c (some a) = some () := by
  show Option.map _ (isO h c (some a)) = _
  rw [v_isO q]
  rfl
section DY
variable {n : Nat} {h : HH} {t : Nat} {s : Nat → Int32}
def wntArg (N : Nat) (a1 a2 a3 a4 : Int32) : Int32 := if F_X4_in a1 0 (I32 N - (1 : Int32)) = 0 then (0 : Int32) else if F_X4_isClock a2 = 0 then (0 : Int32) else if F_X4_in a3 0 9 = 0 then (0 : Int32) else F_X4_in a4 a3 10
theorem wntArg_c (N : Nat) (a1 a2 a3 a4 : Int32) : (if F_X4_in a1 0 (I32 N - (1 : Int32)) = 0 then (0 : Int32) else (if (F_X1_isClock a2) = 0 then (0 : Int32) else (if (F_X1_isBetween (a3.toInt64) (0 : Int64) (9 : Int64)) = 0 then (0 : Int32) else (if (F_X1_isBetween (a4.toInt64) (a3.toInt64) (10 : Int64)) = 0 then (0 : Int32) else (1 : Int32))))) = wntArg N a1 a2 a3 a4 := by
  unfold wntArg
  rw [isClock_in, show F_X1_isBetween (a3.toInt64) (0 : Int64) (9 : Int64) = F_X4_in a3 0 9 from between_in a3 0 9, show F_X1_isBetween (a4.toInt64) (a3.toInt64) (10 : Int64) = F_X4_in a4 a3 10 from between_in a4 a3 10, fl_id (in_fl a4 a3 10)]
def wntP (N : Nat) (a1 a2 a3 a4 : Int32) : Prop := isL N a1 ∧ isC 2 a2 ∧ (0 ≤ a3.toInt ∧ a3.toInt ≤ 9) ∧ a3.toInt ≤ a4.toInt ∧ a4.toInt ≤ 10
theorem wntArg_fl {N : Nat} (hN : N ≤ 10) (a1 a2 a3 a4 : Int32) : fl (wntArg N a1 a2 a3 a4) (wntP N a1 a2 a3 a4) := fl_if0 (isL_fl hN a1) (fun _ => fl_if0 (isClock_fl a2) (fun _ => fl_if0 (in_fl a3 0 9) (fun _ => in_fl a4 a3 10)))
theorem LR.old {h' : HH} {s' : Nat → Int32} {l ln le mo : Nat} (R : LR h s l ln le mo) (hb : hB h' = hB h) (k1 : hF h' ln = hF h ln) (k2 : hF h' le = hF h le) (k3 : hF h' mo = hF h mo) (a : ∀ j, j < 9 → s' (103 + 9 * l + j) = s (103 + 9 * l + j)) : LR h' s' l ln le mo := by
  obtain ⟨e1, ⟨f, e2, q2⟩, ⟨g, e3, q3⟩, b1, b2, b3⟩ := R
  have a0 : s' (103 + 9 * l) = s (103 + 9 * l) := a 0 (by omega)
  have a1 := a 1 (by omega)
  have a8 := a 8 (by omega)
  rw [show 103 + 9 * l + 1 = 104 + 9 * l by omega] at a1
  rw [show 103 + 9 * l + 8 = 111 + 9 * l by omega] at a8
  refine ⟨by rw [k1, a0, a1, a8]; exact e1, ⟨f, by rw [k2]; exact e2, fun c hc => ?_⟩, ⟨g, by rw [k3]; exact e3, fun c hc => ?_⟩, by rw [hb]; exact b1, by rw [hb]; exact b2, by rw [hb]; exact b3⟩
  · have := a (2 + c) (by omega)
    rw [show 103 + 9 * l + (2 + c) = 105 + 9 * l + c by omega] at this
    rw [this]
    exact q2 c hc
  · have := a (5 + c) (by omega)
    rw [show 103 + 9 * l + (5 + c) = 108 + 9 * l + c by omega] at this
    rw [this]
    exact q3 c hc
theorem a_wants (a1 a2 a3 a4 : Int32) (o : OKH h) (R : DR n h t s) {N : Nat} (hN : s 102 = I32 N) (hN2 : N ≤ 10) (m : Rm 20 200 h) (hn : n ≤ hSz h) : ∃ res h', F_X2_wants t a1 a2 a3 a4 h = some (res, h') ∧ Gr (fun a => a < n) 20 200 h h' ∧ (¬ wntP N a1 a2 a3 a4 → Ref res h' 1) ∧ ∀ l c, l < N → c ≤ 2 → a1 = I32 l → a2 = I32 c → wntP N a1 a2 a3 a4 → res = .inr (s (105 + 9 * l + c)) ∧ ∀ s' : Nat → Int32, s' (105 + 9 * l + c) = a3 → s' (108 + 9 * l + c) = a4 → (∀ j, j < 194 → j ≠ 105 + 9 * l + c → j ≠ 108 + 9 * l + c → s' j = s j) → DR n h' t s' := by
  obtain ⟨st, al, sh, z0, C, ht, Z0, S, H, ⟨N', ar, cap, q, la, le, mo, e1, e2, A, L, i1, i2, o1, o2, o3⟩⟩ := R
  have hNN := i32inj (by omega) (by omega) (hN.symm.trans e1)
  subst hNN
  unfold F_X2_wants
  rw [v_isO C.1, bind_some9, isLine_a C A, bind_some9, wntArg_c]
  rcases need_cases (k := 1) (wntArg_fl hN2 a1 a2 a3 a4) o (m.mono (by decide) (by decide)) with ⟨nf, e⟩ | ⟨p, e⟩
  · rw [e, thr_l]
    exact ⟨_, _, rfl, ((gr_ref (t := hSz h) o 1).sub (fun a q => ⟨by omega, by omega⟩)).mono (by decide) (by decide), fun _ => ⟨_, rfl, hF_push_eq _ _ _⟩, fun l c _ _ _ _ p => absurd p nf⟩
  · obtain ⟨⟨l, hl, e1'⟩, ⟨c, hc, e2'⟩, _⟩ := id p
    subst e1'
    subst e2'
    obtain ⟨ql, R⟩ := L l hl
    obtain ⟨X1, ⟨f, X2, f2⟩, ⟨g, X3, g3⟩, b1, b2, b3⟩ := id R
    have hix := ix_of c 3 (by omega) (by decide)
    have nem := i2 l hl l hl
    have Y1 : hF (hset h (le l) (.inl (0, 3, .inl (upd f c a3)))) (la l) = hF h (la l) := hF_set_ne _ _ (fun z => by rw [z, X2] at X1; cases X1)
    have Y3 : hF (hset h (le l) (.inl (0, 3, .inl (upd f c a3)))) (mo l) = some (.inl (0, 3, .inl g)) := by rw [hF_set_ne _ _ (Ne.symm nem)]; exact X3
    rw [e, thr_r, v_getR C.1 rfl, bind_some9, A.size.1, bind_some9, A.get hl (by omega), bind_some9, ql, v_castO X1, bind_some9, v_getR X1 rfl, bind_some9, v_aldI X2 hix, bind_some9, bind_some9, v_astI X2 hix b2, bind_some9, v_getR (Y1.trans X1) rfl, bind_some9, v_astI Y3 hix b3, bind_some9]
    have g1 : Gr (fun a => a < hSz h ∧ a ≠ le l ∧ a ≠ mo l) 0 0 h (hset (hset h (le l) (.inl (0, 3, .inl (upd f c a3)))) (mo l) (.inl (0, 3, .inl (upd g c a4)))) := (Gr.set o X2 (fun z => z.2.1 rfl)).tr (Gr.set (o.set X2) Y3 (fun z => z.2.2 rfl))
    have gk : ∀ a ec, hF h a = some ec → kd ec ≠ (1, 3) → hF (hset (hset h (le l) (.inl (0, 3, .inl (upd f c a3)))) (mo l) (.inl (0, 3, .inl (upd g c a4)))) a = some ec := fun a ec ha hk => by
      rw [hF_set_ne _ _ (fun z => by rw [z, X3] at ha; cases ha; exact hk rfl), hF_set_ne _ _ (fun z => by rw [z, X2] at ha; cases ha; exact hk rfl)]
      exact ha
    have kx : KeepX (fun k => k = (1, 3)) h (hset (hset h (le l) (.inl (0, 3, .inl (upd f c a3)))) (mo l) (.inl (0, 3, .inl (upd g c a4)))) := ⟨rfl, fun a ec ha hx => gk a ec ha hx, fun a c' fs ha => ⟨fs, gk a _ ha (by intro z; cases z)⟩⟩
    refine ⟨_, _, rfl, (g1.sub (fun a z => ⟨by omega, by have := (o3 l hl).2.1; omega, by have := (o3 l hl).2.2; omega⟩)).mono (by decide) (by decide), fun z => absurd p z, fun l' c' hl' hc' q1 q2 _ => ?_⟩
    have r1 := i32inj (by omega) (by omega) q1
    have r2 := i32inj (by omega) (by omega) q2
    subst r1
    subst r2
    refine ⟨by rw [f2 c (by omega)], fun s' w1 w2 w3 => ?_⟩
    have ag : ∀ i, i < 194 → i < 103 + 9 * l ∨ 112 + 9 * l ≤ i → s' i = s i := fun i h1 h2 => w3 i h1 (by omega) (by omega)
    refine ⟨st, al, sh, z0, ?_, ht, (Z0.keep kx (by decide) (by decide)).congr (Zs_congr (fun i hi => ag _ (by omega) (by omega))), S.keep kx (by decide) (fun i h1 h2 => ag i (by omega) (by omega)), H.keep kx (by decide) (by decide) (by decide) (fun i h1 h2 => ag i (by omega) (by omega)), N, ar, cap, q, la, le, mo, by rw [ag 102 (by omega) (by omega)]; exact e1, e2, A.keep kx (by decide) (fun n _ z => by cases z), fun j hj => ⟨(L j hj).1, ?_⟩, i1, i2, o1, o2, o3⟩
    · rw [ag 193 (by omega) (by omega)]
      exact ⟨gk t _ C.1 (by intro z; cases z), C.2⟩
    · by_cases ej : j = l
      · subst ej
        refine ⟨?_, ⟨_, by rw [hF_set_ne _ _ nem]; exact hF_set_eq _ _ _, fun i hi => ?_⟩, ⟨_, hF_set_eq _ _ _, fun i hi => ?_⟩, b1, b2, b3⟩
        · rw [w3 _ (by omega) (by omega) (by omega), w3 (104 + 9 * j) (by omega) (by omega) (by omega), w3 (111 + 9 * j) (by omega) (by omega) (by omega)]
          exact gk _ _ X1 (by intro z; cases z)
        · unfold upd
          by_cases ei : i = c
          · rw [if_pos ei, ei, w1]
          · rw [if_neg ei, w3 _ (by omega) (by omega) (by omega)]
            exact f2 i hi
        · unfold upd
          by_cases ei : i = c
          · rw [if_pos ei, ei, w2]
          · rw [if_neg ei, w3 _ (by omega) (by omega) (by omega)]
            exact g3 i hi
      · have RJ := (L j hj).2
        obtain ⟨J1, ⟨fj, J2, _⟩, ⟨gj, J3, _⟩, _⟩ := id RJ
        have hj2 := i1 j hj l hl ej
        refine RJ.old rfl (by rw [J1]; exact gk _ _ J1 (by intro z; cases z)) ?_ ?_ (fun i hi => ag _ (by omega) (by omega))
        · rw [hF_set_ne _ _ (i2 j hj l hl), hF_set_ne _ _ hj2.2.1]
        · rw [hF_set_ne _ _ hj2.2.2, hF_set_ne _ _ (Ne.symm (i2 l hl j hj))]
def turnArg (N : Nat) (a1 a2 : Int32) : Int32 := if F_X4_in a1 0 (I32 N - (1 : Int32)) = 0 then (0 : Int32) else F_X4_isClock a2
theorem turnArg_c (N : Nat) (a1 a2 : Int32) : (if F_X4_in a1 0 (I32 N - (1 : Int32)) = 0 then (0 : Int32) else (if (F_X1_isClock a2) = 0 then (0 : Int32) else (1 : Int32))) = turnArg N a1 a2 := by
  unfold turnArg
  rw [isClock_in, fl_id (isClock_fl a2)]
theorem turnArg_fl {N : Nat} (hN : N ≤ 10) (a1 a2 : Int32) : fl (turnArg N a1 a2) (isL N a1 ∧ isC 2 a2) := fl_if0 (isL_fl hN a1) (fun _ => isClock_fl a2)
def bitOf (x a : Int32) : Int32 := if ((x >>> (a &&& 31)) &&& (1 : Int32)) = (1 : Int32) then (1 : Int32) else (0 : Int32)
theorem a_turnsReset (a1 a2 : Int32) (o : OKH h) (R : DR n h t s) {N : Nat} (hN : s 102 = I32 N) (hN2 : N ≤ 10) (m : Rm 20 200 h) (hn : n ≤ hSz h) : ∃ res h', F_X2_turnsReset t a1 a2 h = some (res, h') ∧ Gr (fun a => a < n) 20 200 h h' ∧ (¬ (isL N a1 ∧ isC 2 a2) → Ref res h' 1) ∧ ∀ l, l < N → isC 2 a2 → a1 = I32 l → res = .inr (bitOf (s (111 + 9 * l) ^^^ ((1 : Int32) <<< (a2 &&& 31))) a2) ∧ ∀ s' : Nat → Int32, s' (111 + 9 * l) = s (111 + 9 * l) ^^^ ((1 : Int32) <<< (a2 &&& 31)) → (∀ j, j < 194 → j ≠ 111 + 9 * l → s' j = s j) → DR n h' t s' := by
  obtain ⟨st, al, sh, z0, C, ht, Z0, S, H, ⟨N', ar, cap, q, la, le, mo, e1, e2, A, L, i1, i2, o1, o2, o3⟩⟩ := R
  have hNN := i32inj (by omega) (by omega) (hN.symm.trans e1)
  subst hNN
  unfold F_X2_turnsReset
  rw [v_isO C.1, bind_some9, isLine_a C A, bind_some9, turnArg_c]
  rcases need_cases (k := 1) (turnArg_fl hN2 a1 a2) o (m.mono (by decide) (by decide)) with ⟨nf, e⟩ | ⟨p, e⟩
  · rw [e, thr_l]
    exact ⟨_, _, rfl, ((gr_ref (t := hSz h) o 1).sub (fun a q => ⟨by omega, by omega⟩)).mono (by decide) (by decide), fun _ => ⟨_, rfl, hF_push_eq _ _ _⟩, fun l hl hc e => absurd ⟨⟨l, hl, e⟩, hc⟩ nf⟩
  · obtain ⟨⟨l, hl, e1'⟩, hc2⟩ := id p
    subst e1'
    obtain ⟨ql, R⟩ := L l hl
    obtain ⟨X1, ⟨f, X2, f2⟩, ⟨g, X3, g3⟩, b1, b2, b3⟩ := id R
    have hp : putV h 4 4 (some (la l)) (.int (s (111 + 9 * l) ^^^ ((1 : Int32) <<< (a2 &&& 31)))) = some (hset h (la l) (.inr (4, [.int (s (103 + 9 * l)), .int (s (104 + 9 * l)), .ref (le l), .ref (mo l), .int (s (111 + 9 * l) ^^^ ((1 : Int32) <<< (a2 &&& 31)))]))) := v_putV X1 (by show 4 < 5; decide) b1
    have g3' : Gr (fun a => a < hSz h ∧ a ≠ la l) 0 0 h (hset h (la l) (.inr (4, [.int (s (103 + 9 * l)), .int (s (104 + 9 * l)), .ref (le l), .ref (mo l), .int (s (111 + 9 * l) ^^^ ((1 : Int32) <<< (a2 &&& 31)))]))) := Gr.set o X1 (fun z => z.2 rfl)
    have kx : KeepX (fun k => k = (0, 4)) h (hset h (la l) (.inr (4, [.int (s (103 + 9 * l)), .int (s (104 + 9 * l)), .ref (le l), .ref (mo l), .int (s (111 + 9 * l) ^^^ ((1 : Int32) <<< (a2 &&& 31)))]))) := KeepX.one o g3' X1 (hF_set_eq _ _ _) rfl rfl
    have nt : t ≠ la l := fun z => by
      have h1 := C.1
      rw [z, X1] at h1
      cases h1
    have C' := C.gr g3' ⟨o.lt C.1, nt⟩
    have A' := A.keep kx (by decide) (fun n _ z => by cases z)
    have X1' := hF_set_eq h (la l) (.inr (4, [.int (s (103 + 9 * l)), .int (s (104 + 9 * l)), .ref (le l), .ref (mo l), .int (s (111 + 9 * l) ^^^ ((1 : Int32) <<< (a2 &&& 31)))]))
    rw [e, thr_r, v_getR C.1 rfl, bind_some9, A.size.1, bind_some9, A.get hl (by omega), bind_some9, ql, v_castO X1, bind_some9, v_getI X1 rfl, bind_some9, hp, bind_some9, v_getR C'.1 rfl, bind_some9, A'.size.1, bind_some9, A'.get hl (by omega), bind_some9, ql, v_castO X1', bind_some9, v_isO X1', bind_some9]
    have eb : F_X5_isReset (la l) a2 (hset h (la l) (.inr (4, [.int (s (103 + 9 * l)), .int (s (104 + 9 * l)), .ref (le l), .ref (mo l), .int (s (111 + 9 * l) ^^^ ((1 : Int32) <<< (a2 &&& 31)))]))) = some (bitOf (s (111 + 9 * l) ^^^ ((1 : Int32) <<< (a2 &&& 31))) a2) := by
      unfold F_X5_isReset
      rw [v_getI X1' rfl]
      rfl
    rw [eb, bind_some9]
    have eid : (if bitOf (s (111 + 9 * l) ^^^ ((1 : Int32) <<< (a2 &&& 31))) a2 = 0 then (0 : Int32) else (1 : Int32)) = bitOf (s (111 + 9 * l) ^^^ ((1 : Int32) <<< (a2 &&& 31))) a2 := fl_id (P := _) fl_pos
    rw [eid]
    refine ⟨_, _, rfl, (g3'.sub (fun a z => ⟨by omega, by have := (o3 l hl).1; omega⟩)).mono (by decide) (by decide), fun z => absurd p z, fun l' hl' _ q1 => ?_⟩
    have r1 := i32inj (by omega) (by omega) q1
    subst r1
    refine ⟨rfl, fun s' w1 w3 => ?_⟩
    refine ⟨st, al, sh, z0, ?_, ht, (Z0.keep kx (by decide) (by decide)).congr (Zs_congr (fun i hi => w3 _ (by omega) (by omega))), S.keep kx (by decide) (fun i h1 h2 => w3 i (by omega) (by omega)), H.keep kx (by decide) (by decide) (by decide) (fun i h1 h2 => w3 i (by omega) (by omega)), N, ar, cap, q, la, le, mo, by rw [w3 102 (by omega) (by omega)]; exact e1, e2, A', fun j hj => ⟨(L j hj).1, ?_⟩, i1, i2, o1, o2, o3⟩
    · rw [w3 193 (by omega) (by omega)]
      exact C'
    · by_cases ej : j = l
      · subst ej
        refine ⟨?_, ⟨f, kx.2.1 _ _ X2 (by intro z; cases z), fun i hi => by rw [w3 _ (by omega) (by omega)]; exact f2 i hi⟩, ⟨g, kx.2.1 _ _ X3 (by intro z; cases z), fun i hi => by rw [w3 _ (by omega) (by omega)]; exact g3 i hi⟩, b1, b2, b3⟩
        rw [w3 _ (by omega) (by omega), w3 (104 + 9 * j) (by omega) (by omega), w1]
        exact X1'
      · have RJ := (L j hj).2
        obtain ⟨J1, ⟨fj, J2, _⟩, ⟨gj, J3, _⟩, _⟩ := id RJ
        exact RJ.old rfl (hF_set_ne _ _ (i1 j hj l hl ej).1) (by rw [J2]; exact kx.2.1 _ _ J2 (by intro z; cases z)) (by rw [J3]; exact kx.2.1 _ _ J3 (by intro z; cases z)) (fun i hi => w3 _ (by omega) (by omega))
end DY
