/-! texts: characters, and where they are -/
def chA (len : Nat) (c : Nat → Int32) (p : Nat) : Int32 := if p < len then c p else 0
theorem chr_255 : ∀ n, n < 127 → (((I32 n &&& (255 : Int32)).toUInt32 % 65536).toInt32) = I32 n := by decide
theorem cap_sh : ∀ cap ∈ txC, (I32 cap >>> ((0 : Int32) &&& 31)) = I32 cap := by decide
theorem okC_n {n : Nat} (h : n < 127) : okC (I32 n) = some () := by
  unfold okC
  rw [if_pos (chr_u n h)]
theorem sh5 : ∀ L, L < 6 → (I32 L >>> ((0 : Int32) &&& 31)) = I32 L := by decide
theorem enc2 : ∀ n, n < 127 → ¬ F_J21_canEncode_2 (I32 n) = 0 := by decide
def isD (x : Int32) : Prop := 48 ≤ x.toInt ∧ x.toInt ≤ 57
section TXA
variable {h h' : HH} {S : MS} {tx va cap len p n L v : Nat} {ml : Int32} {b bs : Nat → Int32}
theorem tx_len (T : TxQ h tx S va cap len ml b) : F_J5_length tx h = some (I32 len) := by
  unfold F_J5_length F_J4_length
  rw [v_isO T.1, bind_some9, v_getI T.1 rfl, bind_some9, bind_some9]
theorem tx_at (T : TxQ h tx S va cap len ml b) (hp : p < len) : F_J5_charAt tx (I32 p) h = some (S.1 6 p) := by
  obtain ⟨t1, t2, t3, t4, t5, t6, t7, t8, t9⟩ := T
  obtain ⟨u1, u2, u3⟩ := t9 p hp
  obtain ⟨n, n1, _, en⟩ := chr_of u2 u3
  have c70 : cap ≤ 70 := by
    have : ∀ c ∈ txC, c ≤ 70 := by decide
    exact this cap t7
  have al : alen h (some va) = some (I32 cap) := v_alen t2 (by decide)
  have mn : F_J11_min (I32 len) (I32 cap) = I32 len := by
    unfold F_J11_min
    rw [if_neg (fun w => by rw [i32lt (by omega) (by omega)] at w; omega)]
  unfold F_J5_charAt F_J4_charAt F_J6_checkIndex F_J9_checkIndex
  rw [v_isO t1, bind_some9, v_getI t1 rfl, bind_some9, v_getR t1 rfl, bind_some9, v_getI t1 rfl, bind_some9, al, bind_some9, cap_sh cap t7, mn, if_neg (ix_of p 100 (by omega) (by decide)).1, if_pos ((i32lt (by omega) (by omega)).mpr hp), bind_some9, bind_some9, if_pos rfl, v_aldI t2 (ix_of p cap (by omega) (by omega)), bind_some9, u1, en, chr_255 n n1, okC_n n1, bind_some9, bind_some9, okC_n n1, bind_some9]
theorem chA_n (T : TxQ h tx S va cap len ml b) (p : Nat) : ∃ n, n < 127 ∧ chA len (S.1 6) p = I32 n ∧ (p < len → 32 ≤ n) := by
  unfold chA
  by_cases hp : p < len
  · obtain ⟨u1, u2, u3⟩ := T.2.2.2.2.2.2.2.2 p hp
    obtain ⟨n, n1, n2, en⟩ := chr_of u2 u3
    rw [if_pos hp]
    exact ⟨n, n1, en, fun _ => n2⟩
  · rw [if_neg hp]
    exact ⟨0, by decide, rfl, fun q => absurd q hp⟩
/-- a letter looked for in a short string -/
theorem sx_idx {s : Nat} (Hs : hF h s = some (.inr (11, [.ref v, .int 0]))) (Hv : hF h v = some (.inl (1, L, .inl bs))) (hL : 1 ≤ L) (hL5 : L ≤ 5) (hn : n < 127) : ∃ r, F_J6_indexOf s (I32 n) h = some r ∧ (r < 0 ↔ ∀ i, i < L → bs i ≠ I32 n) := by
  have al : alen h (some v) = some (I32 L) := v_alen Hv (by decide)
  have mn : F_J11_min (I32 L) (I32 L) = I32 L := by
    show (if I32 L < I32 L then I32 L else I32 L) = I32 L
    split <;> rfl
  have mx0 : F_J11_max (0 : Int32) (0 : Int32) = 0 := by decide
  obtain ⟨r, e, hr⟩ := lp_mea (B := fun z => F_J21_indexOfChar_B7 (some v) (I32 n) (0 : Int32) (I32 L) (I32 n) z h) (Q := fun r => r < 0 ↔ ∀ i, i < L → bs i ≠ I32 n) (fun x => ∃ i, i ≤ L ∧ x = I32 i ∧ ∀ j, j < i → bs j ≠ I32 n) (fun x => 10 - x.toNatClampNeg) (fun x hx => by
    obtain ⟨i, hi, rfl, hj⟩ := hx
    by_cases q : i < L
    · have e1 : aldI h 1 (some v) (I32 i) = some (bs i) := v_aldI Hv (ix_of i L q (by omega))
      by_cases q2 : bs i = I32 n
      · refine Or.inr ⟨I32 i, ?_, ⟨fun w => absurd w (ix_of i 10 (by omega) (by decide)).1, fun w => absurd q2 (w i q)⟩⟩
        unfold F_J21_indexOfChar_B7
        rw [if_neg (fun c => by rw [i32le (by omega) (by omega)] at c; omega), e1, bind_some9, if_pos q2]
      · refine Or.inl ⟨I32 (i + 1), ?_, ⟨i + 1, q, rfl, fun j h1 => ?_⟩, ?_⟩
        · unfold F_J21_indexOfChar_B7
          rw [if_neg (fun c => by rw [i32le (by omega) (by omega)] at c; omega), e1, bind_some9, if_neg q2, i32s i (by omega)]
        · by_cases ej : j = i
          · rw [ej]
            exact q2
          · exact hj j (by omega)
        · rw [(ix_of (i + 1) 10 (by omega) (by decide)).2.1, (ix_of i 10 (by omega) (by decide)).2.1]
          omega
    · have : i = L := by omega
      subst this
      refine Or.inr ⟨-1, ?_, ⟨fun _ => hj, fun _ => by decide⟩⟩
      unfold F_J21_indexOfChar_B7
      rw [if_pos (Int32.le_refl _)]) 100000 (0 : Int32) ⟨0, Nat.zero_le _, rfl, fun j h1 => absurd h1 (Nat.not_lt_zero j)⟩ (by omega)
  refine ⟨r, ?_, hr⟩
  unfold F_J6_indexOf F_J6_indexOf_2 F_J6_isLatin1 F_J6_length F_J6_coder F_J21_indexOf F_J21_indexOfChar
  rw [v_isO Hs, bind_some9, v_isO Hs, bind_some9, if_neg (by decide), v_getI Hs rfl, bind_some9, bind_some9, if_neg (by decide), v_getR Hs rfl, bind_some9, bind_some9, v_getR Hs rfl, bind_some9, al, bind_some9, v_isO Hs, bind_some9, if_neg (by decide), v_getI Hs rfl, bind_some9, show okB (0 : Int32) = some () from rfl, bind_some9, bind_some9, sh5 L (by omega), bind_some9, if_neg (enc2 n hn), bind_some9, mx0, mn, if_pos (show (0 : Int32) < I32 L from (i32lt (a := 0) (by decide) (by omega)).mpr hL), (chr_b n hn).1, e, bind_some9, bind_some9, bind_some9, bind_some9]
end TXA
/-! the reader: its cells, and what it reads -/
def TC (h : HH) (B : Nat) (S : MS) (len : Nat) : Prop := ∃ (dk : Nat) (kv : Value) (hi tx va cap : Nat) (ml : Int32) (b : Nat → Int32), hF h B = some (.inr (0, [.ref dk, kv, .ref hi, .ref tx])) ∧ TxQ h tx S va cap len ml b
def Rd (h : HH) (r tr na B : Nat) (p bg rs cs mn : Int32) (nm : Nat → Int32) : Prop := hF h r = some (.inr (6, [.ref tr, .ref na, .int p, .int bg, .int rs, .int cs, .int mn, .ref B])) ∧ hF h na = some (.inl (0, 3, .inl nm)) ∧ hB h ≤ r ∧ hB h ≤ na
def GN (r na : Nat) (h h' : HH) : Prop := Gr (fun a => a ≠ r ∧ a ≠ na) 0 0 h h'
section RDS
variable {h h' h2 : HH} {S : MS} {B r tr na len p n : Nat} {bg rs cs mn x y : Int32} {nm : Nat → Int32}
theorem GN.trans (a : GN r na h h') (b : GN r na h' h2) : GN r na h h2 := Gr.tr a b
theorem GN.rf (o : OKH h) : GN r na h h := Gr.rf o
theorem Rd.ne (R : Rd h r tr na B x bg rs cs mn nm) : na ≠ r := fun w => by
  have := R.2.1
  rw [w, R.1] at this
  cases this
theorem TC.gn (R : Rd h r tr na B x bg rs cs mn nm) (g : GN r na h h') (T : TC h B S len) : TC h' B S len := by
  obtain ⟨dk, kv, hi, tx, va, cap, ml, b, C, t1, t2, t3, t4, t5⟩ := T
  have k : ∀ a e, hF h a = some e → kd e ≠ (0, 6) → kd e ≠ (1, 3) → hF h' a = some e := fun a e ha k1 k2 => by
    rw [g.2.1 a ⟨fun w => ?_, fun w => ?_⟩]
    · exact ha
    · rw [w, R.1] at ha
      cases ha
      exact k1 rfl
    · rw [w, R.2.1] at ha
      cases ha
      exact k2 rfl
  refine ⟨dk, kv, hi, tx, va, cap, ml, b, k _ _ C (show ((0, 0) : Nat × Nat) ≠ (0, 6) by decide) (show ((0, 0) : Nat × Nat) ≠ (1, 3) by decide), k _ _ t1 (show ((0, 10) : Nat × Nat) ≠ (0, 6) by decide) (show ((0, 10) : Nat × Nat) ≠ (1, 3) by decide), k _ _ t2 (fun w => ?_) (fun w => ?_), by rw [g.b]; exact t3, by rw [g.b]; exact t4, t5⟩
  · have w : ((2, cap) : Nat × Nat) = (0, 6) := w
    cases w
  · have w : ((2, cap) : Nat × Nat) = (1, 3) := w
    cases w
theorem rd_put (o : OKH h) (R : Rd h r tr na B x bg rs cs mn nm) (k : Nat) (hk : k < 8) (v : Value) : ∃ h', putV h 6 k (some r) v = some h' ∧ GN r na h h' ∧ hF h' r = some (.inr (6, [.ref tr, .ref na, .int x, .int bg, .int rs, .int cs, .int mn, .ref B].set k v)) ∧ hF h' na = some (.inl (0, 3, .inl nm)) ∧ hB h' ≤ r ∧ hB h' ≤ na := by
  refine ⟨_, v_putV R.1 hk R.2.2.1, Gr.set o R.1 (fun w => w.1 rfl), hF_set_eq _ _ _, by rw [hF_set_ne _ _ R.ne]; exact R.2.1, R.2.2⟩
theorem Rd.pAt (o : OKH h) (R : Rd h r tr na B x bg rs cs mn nm) (y : Int32) : ∃ h', putV h 6 2 (some r) (.int y) = some h' ∧ GN r na h h' ∧ Rd h' r tr na B y bg rs cs mn nm := by
  obtain ⟨h', e, g, a, b, c⟩ := rd_put o R 2 (by decide) (.int y)
  exact ⟨h', e, g, a, b, c⟩
theorem Rd.pBg (o : OKH h) (R : Rd h r tr na B x bg rs cs mn nm) (y : Int32) : ∃ h', putV h 6 3 (some r) (.int y) = some h' ∧ GN r na h h' ∧ Rd h' r tr na B x y rs cs mn nm := by
  obtain ⟨h', e, g, a, b, c⟩ := rd_put o R 3 (by decide) (.int y)
  exact ⟨h', e, g, a, b, c⟩
theorem Rd.pRs (o : OKH h) (R : Rd h r tr na B x bg rs cs mn nm) (y : Int32) : ∃ h', putV h 6 4 (some r) (.int y) = some h' ∧ GN r na h h' ∧ Rd h' r tr na B x bg y cs mn nm := by
  obtain ⟨h', e, g, a, b, c⟩ := rd_put o R 4 (by decide) (.int y)
  exact ⟨h', e, g, a, b, c⟩
theorem Rd.pCs (o : OKH h) (R : Rd h r tr na B x bg rs cs mn nm) (y : Int32) : ∃ h', putV h 6 5 (some r) (.int y) = some h' ∧ GN r na h h' ∧ Rd h' r tr na B x bg rs y mn nm := by
  obtain ⟨h', e, g, a, b, c⟩ := rd_put o R 5 (by decide) (.int y)
  exact ⟨h', e, g, a, b, c⟩
theorem Rd.pMn (o : OKH h) (R : Rd h r tr na B x bg rs cs mn nm) (y : Int32) : ∃ h', putV h 6 6 (some r) (.int y) = some h' ∧ GN r na h h' ∧ Rd h' r tr na B x bg rs cs y nm := by
  obtain ⟨h', e, g, a, b, c⟩ := rd_put o R 6 (by decide) (.int y)
  exact ⟨h', e, g, a, b, c⟩
theorem Rd.pNm (o : OKH h) (R : Rd h r tr na B x bg rs cs mn nm) {w : Nat} (hw : w < 3) (y : Int32) : ∃ h', astI h (some na) (I32 w) y = some h' ∧ GN r na h h' ∧ Rd h' r tr na B x bg rs cs mn (upd nm w y) := by
  refine ⟨_, v_astI R.2.1 (ix_of w 3 hw (by decide)) R.2.2.2, Gr.set o R.2.1 (fun w => w.2 rfl), by rw [hF_set_ne _ _ (Ne.symm R.ne)]; exact R.1, hF_set_eq _ _ _, R.2.2⟩
theorem f_accepts (o : OKH h) (T : TC h B S len) (R : Rd h r tr na B (I32 p) bg rs cs mn nm) (hp : p ≤ 100) {sg : Int32} (hs : sg ≠ 0) : ∃ v h', F_X8_accepts r sg h = some (v, h') ∧ GN r na h h' ∧ ((v = 1 ∧ chA len (S.1 6) p = sg ∧ Rd h' r tr na B (I32 (p + 1)) bg rs cs mn nm) ∨ (v = 0 ∧ chA len (S.1 6) p ≠ sg ∧ Rd h' r tr na B (I32 p) bg rs cs mn nm)) := by
  obtain ⟨dk, kv, hi, tx, va, cap, ml, b, C, T⟩ := T
  have l60 := T.2.2.2.2.1
  obtain ⟨h1, p1, g1, R1⟩ := R.pAt o (I32 (p + 1))
  obtain ⟨h2, p2, g2, R2⟩ := R.pAt o (I32 p)
  have z0 : I32 p + (0 : Int32) = I32 p := Int32.add_zero _
  have t1 : F_X8_accepts_T40 r sg (1 : Int32) h = some ((1 : Int32), h1) := by
    unfold F_X8_accepts_T40
    rw [v_getI R.1 rfl, bind_some9, if_neg (by decide), i32s p (by omega), p1, bind_some9, show okZ (1 : Int32) = some () from rfl, bind_some9]
  have t0 : F_X8_accepts_T40 r sg (0 : Int32) h = some ((0 : Int32), h2) := by
    unfold F_X8_accepts_T40
    rw [v_getI R.1 rfl, bind_some9, if_pos rfl, z0, p2, bind_some9, show okZ (0 : Int32) = some () from rfl, bind_some9]
  unfold F_X8_accepts chA
  rw [v_getI R.1 rfl, bind_some9, v_getR R.1 rfl, bind_some9, v_getR C rfl, bind_some9, v_isO T.1, bind_some9, tx_len T, bind_some9]
  by_cases q : p < len
  · rw [if_neg (fun c => by rw [i32le (by omega) (by omega)] at c; omega), bind_some9, v_getR C rfl, bind_some9, bind_some9, v_isO T.1, bind_some9, tx_at T q, bind_some9, if_pos q]
    by_cases q2 : S.1 6 p = sg
    · rw [if_pos q2, t1]
      exact ⟨_, _, rfl, g1, Or.inl ⟨rfl, q2, R1⟩⟩
    · rw [if_neg q2, t0]
      exact ⟨_, _, rfl, g2, Or.inr ⟨rfl, q2, R2⟩⟩
  · rw [if_pos ((i32le (by omega) (by omega)).mpr (by omega)), if_neg q, t0]
    exact ⟨_, _, rfl, g2, Or.inr ⟨rfl, fun w => hs w.symm, R2⟩⟩
theorem f_reads (o : OKH h) (T : TC h B S len) (R : Rd h r tr na B (I32 p) bg rs cs mn nm) (hp : p ≤ 100) {w : Nat} (hw : w < 3) : ∃ v h', F_X8_reads r (I32 w) h = some (v, h') ∧ GN r na h h' ∧ ((v = 1 ∧ isD (chA len (S.1 6) p) ∧ Rd h' r tr na B (I32 (p + 1)) bg rs cs mn (upd nm w (chA len (S.1 6) p - (48 : Int32)))) ∨ (v = 0 ∧ ¬ isD (chA len (S.1 6) p) ∧ Rd h' r tr na B (I32 p) bg rs cs mn (upd nm w 0))) := by
  obtain ⟨dk, kv, hi, tx, va, cap, ml, b, C, T⟩ := T
  have l60 := T.2.2.2.2.1
  have z0 : I32 p + (0 : Int32) = I32 p := Int32.add_zero _
  have t0 : ∃ h', F_X8_reads_T49 r (I32 w) (0 : Int32) h = some ((0 : Int32), h') ∧ GN r na h h' ∧ Rd h' r tr na B (I32 p) bg rs cs mn (upd nm w 0) := by
    obtain ⟨h1, p1, g1, R1⟩ := R.pNm o hw 0
    obtain ⟨h2, p2, g2, R2⟩ := R1.pAt g1.ok (I32 p)
    refine ⟨h2, ?_, g1.trans g2, R2⟩
    unfold F_X8_reads_T49 F_X8_reads_T80
    rw [v_getR R.1 rfl, bind_some9, if_pos rfl, p1, bind_some9, v_getI R1.1 rfl, bind_some9, if_pos rfl, z0, p2, bind_some9, show okZ (0 : Int32) = some () from rfl, bind_some9]
  unfold F_X8_reads chA
  rw [v_getI R.1 rfl, bind_some9, v_getR R.1 rfl, bind_some9, v_getR C rfl, bind_some9, v_isO T.1, bind_some9, tx_len T, bind_some9]
  by_cases q : p < len
  · rw [if_neg (fun c => by rw [i32le (by omega) (by omega)] at c; omega), bind_some9, v_getR C rfl, bind_some9, bind_some9, v_isO T.1, bind_some9, tx_at T q, bind_some9, if_pos q, show F_X1_isBetween ((S.1 6 p).toInt64) (48 : Int64) (57 : Int64) = F_X4_in (S.1 6 p) 48 57 from between_in (S.1 6 p) 48 57]
    have f : fl (F_X4_in (S.1 6 p) 48 57) (isD (S.1 6 p)) := in_fl (S.1 6 p) 48 57
    by_cases q2 : isD (S.1 6 p)
    · obtain ⟨h1, p1, g1, R1⟩ := R.pNm o hw (S.1 6 p - (48 : Int32))
      obtain ⟨h2, p2, g2, R2⟩ := R1.pAt g1.ok (I32 (p + 1))
      rw [if_neg (fun z => (fl_0 f).mp z q2)]
      refine ⟨1, h2, ?_, g1.trans g2, Or.inl ⟨rfl, q2, R2⟩⟩
      unfold F_X8_reads_T49 F_X8_reads_T80
      rw [v_getR R.1 rfl, bind_some9, if_neg (by decide), v_getR R.1 rfl, bind_some9, v_getR C rfl, bind_some9, v_getI R.1 rfl, bind_some9, v_isO T.1, bind_some9, tx_at T q, bind_some9, p1, bind_some9, v_getI R1.1 rfl, bind_some9, if_neg (by decide), i32s p (by omega), p2, bind_some9, show okZ (1 : Int32) = some () from rfl, bind_some9]
    · obtain ⟨h2, e2, g2, R2⟩ := t0
      rw [if_pos ((fl_0 f).mpr q2), e2]
      exact ⟨_, _, rfl, g2, Or.inr ⟨rfl, q2, R2⟩⟩
  · obtain ⟨h2, e2, g2, R2⟩ := t0
    rw [if_pos ((i32le (by omega) (by omega)).mpr (by omega)), if_neg q, e2]
    refine ⟨_, _, rfl, g2, Or.inr ⟨rfl, fun w => ?_, R2⟩⟩
    have := w.1
    rw [show (0 : Int32).toInt = 0 from rfl] at this
    omega
end RDS
