/-! orders by their signs -/
theorem thr_eta {α : Type} (X : Option (((Nat × String) ⊕ α) × HH)) : thr X (fun q h6 => some ((.inl q : (Nat × String) ⊕ α), h6)) (fun v h6 => some ((.inr v : (Nat × String) ⊕ α), h6)) = X := by
  cases X with
  | none => rfl
  | some p =>
    obtain ⟨r, h⟩ := p
    cases r <;> rfl
theorem dn_98 {h : HH} {t aa n : Nat} {fs : List Value} {f : Nat → Int32} (C : hF h t = some (.inr (2, fs))) (E : hF h aa = some (.inl (0, n, .inl f))) (hn : 0 ≤ n) : F_X1_done (some t) 98 (some aa) h = F_X2_goesBack t h := by
  unfold F_X1_done
  rw [if_pos rfl, v_isO C, bind_some9, thr_eta]
theorem dn_99 {h : HH} {t aa n : Nat} {fs : List Value} {f : Nat → Int32} (C : hF h t = some (.inr (2, fs))) (E : hF h aa = some (.inl (0, n, .inl f))) (hn : 2 ≤ n) : F_X1_done (some t) 99 (some aa) h = F_X2_copies t (f 0) (f 1) h := by
  unfold F_X1_done
  rw [if_neg (by decide), if_pos rfl, v_aldI E (show ix 0 0 n from ⟨by decide, by decide, by omega⟩), bind_some9, v_aldI E (show ix 1 1 n from ⟨by decide, by decide, by omega⟩), bind_some9, v_isO C, bind_some9, thr_eta]
theorem dn_100 {h : HH} {t aa n : Nat} {fs : List Value} {f : Nat → Int32} (C : hF h t = some (.inr (2, fs))) (E : hF h aa = some (.inl (0, n, .inl f))) (hn : 3 ≤ n) : F_X1_done (some t) 100 (some aa) h = F_X2_tells t (f 0) (f 1) (f 2) h := by
  unfold F_X1_done
  rw [if_neg (by decide), if_neg (by decide), if_pos rfl, v_aldI E (show ix 0 0 n from ⟨by decide, by decide, by omega⟩), bind_some9, v_aldI E (show ix 1 1 n from ⟨by decide, by decide, by omega⟩), bind_some9, v_aldI E (show ix 2 2 n from ⟨by decide, by decide, by omega⟩), bind_some9, v_isO C, bind_some9, thr_eta]
theorem dn_102 {h : HH} {t aa n : Nat} {fs : List Value} {f : Nat → Int32} (C : hF h t = some (.inr (2, fs))) (E : hF h aa = some (.inl (0, n, .inl f))) (hn : 1 ≤ n) : F_X1_done (some t) 102 (some aa) h = F_X2_frees t (f 0) h := by
  unfold F_X1_done
  rw [if_neg (by decide), if_neg (by decide), if_neg (by decide), if_pos rfl, v_aldI E (show ix 0 0 n from ⟨by decide, by decide, by omega⟩), bind_some9, v_isO C, bind_some9, thr_eta]
theorem dn_108 {h : HH} {t aa n : Nat} {fs : List Value} {f : Nat → Int32} (C : hF h t = some (.inr (2, fs))) (E : hF h aa = some (.inl (0, n, .inl f))) (hn : 2 ≤ n) : F_X1_done (some t) 108 (some aa) h = F_X2_tells t (3 : Int32) (f 0) (-(f 1)) h := by
  unfold F_X1_done
  rw [if_neg (by decide), if_neg (by decide), if_neg (by decide), if_neg (by decide), if_pos rfl, v_aldI E (show ix 0 0 n from ⟨by decide, by decide, by omega⟩), bind_some9, v_aldI E (show ix 1 1 n from ⟨by decide, by decide, by omega⟩), bind_some9, v_isO C, bind_some9, thr_eta]
theorem dn_109 {h : HH} {t aa n : Nat} {fs : List Value} {f : Nat → Int32} (C : hF h t = some (.inr (2, fs))) (E : hF h aa = some (.inl (0, n, .inl f))) (hn : 2 ≤ n) : F_X1_done (some t) 109 (some aa) h = F_X2_tells t (f 0) (3 : Int32) (f 1) h := by
  unfold F_X1_done
  rw [if_neg (by decide), if_neg (by decide), if_neg (by decide), if_neg (by decide), if_neg (by decide), if_pos rfl, v_aldI E (show ix 0 0 n from ⟨by decide, by decide, by omega⟩), bind_some9, v_aldI E (show ix 1 1 n from ⟨by decide, by decide, by omega⟩), bind_some9, v_isO C, bind_some9, thr_eta]
theorem dn_114 {h : HH} {t aa n : Nat} {fs : List Value} {f : Nat → Int32} (C : hF h t = some (.inr (2, fs))) (E : hF h aa = some (.inl (0, n, .inl f))) (hn : 2 ≤ n) : F_X1_done (some t) 114 (some aa) h = F_X2_resets t (f 0) (f 1) h := by
  unfold F_X1_done
  rw [if_neg (by decide), if_neg (by decide), if_neg (by decide), if_neg (by decide), if_neg (by decide), if_neg (by decide), if_pos rfl, v_aldI E (show ix 0 0 n from ⟨by decide, by decide, by omega⟩), bind_some9, v_aldI E (show ix 1 1 n from ⟨by decide, by decide, by omega⟩), bind_some9, v_isO C, bind_some9, thr_eta]
theorem dn_115 {h : HH} {t aa n : Nat} {fs : List Value} {f : Nat → Int32} (C : hF h t = some (.inr (2, fs))) (E : hF h aa = some (.inl (0, n, .inl f))) (hn : 2 ≤ n) : F_X1_done (some t) 115 (some aa) h = F_X2_shifts t (f 0) (f 1) h := by
  unfold F_X1_done
  rw [if_neg (by decide), if_neg (by decide), if_neg (by decide), if_neg (by decide), if_neg (by decide), if_neg (by decide), if_neg (by decide), if_pos rfl, v_aldI E (show ix 0 0 n from ⟨by decide, by decide, by omega⟩), bind_some9, v_aldI E (show ix 1 1 n from ⟨by decide, by decide, by omega⟩), bind_some9, v_isO C, bind_some9, thr_eta]
theorem dn_116 {h : HH} {t aa n : Nat} {fs : List Value} {f : Nat → Int32} (C : hF h t = some (.inr (2, fs))) (E : hF h aa = some (.inl (0, n, .inl f))) (hn : 0 ≤ n) : F_X1_done (some t) 116 (some aa) h = F_X2_tightens t h := by
  unfold F_X1_done
  rw [if_neg (by decide), if_neg (by decide), if_neg (by decide), if_neg (by decide), if_neg (by decide), if_neg (by decide), if_neg (by decide), if_neg (by decide), if_pos rfl, v_isO C, bind_some9, thr_eta]
theorem dn_119 {h : HH} {t aa n : Nat} {fs : List Value} {f : Nat → Int32} (C : hF h t = some (.inr (2, fs))) (E : hF h aa = some (.inl (0, n, .inl f))) (hn : 0 ≤ n) : F_X1_done (some t) 119 (some aa) h = F_X2_delays t h := by
  unfold F_X1_done
  rw [if_neg (by decide), if_neg (by decide), if_neg (by decide), if_neg (by decide), if_neg (by decide), if_neg (by decide), if_neg (by decide), if_neg (by decide), if_neg (by decide), if_pos rfl, v_isO C, bind_some9, thr_eta]
theorem dn_120 {h : HH} {t aa n : Nat} {fs : List Value} {f : Nat → Int32} (C : hF h t = some (.inr (2, fs))) (E : hF h aa = some (.inl (0, n, .inl f))) (hn : 2 ≤ n) : F_X1_done (some t) 120 (some aa) h = F_X2_forgets t (f 0) (f 1) h := by
  unfold F_X1_done
  rw [if_neg (by decide), if_neg (by decide), if_neg (by decide), if_neg (by decide), if_neg (by decide), if_neg (by decide), if_neg (by decide), if_neg (by decide), if_neg (by decide), if_neg (by decide), if_pos rfl, v_aldI E (show ix 0 0 n from ⟨by decide, by decide, by omega⟩), bind_some9, v_aldI E (show ix 1 1 n from ⟨by decide, by decide, by omega⟩), bind_some9, v_isO C, bind_some9, thr_eta]
theorem dn_121 {h : HH} {t aa n : Nat} {fs : List Value} {f : Nat → Int32} (C : hF h t = some (.inr (2, fs))) (E : hF h aa = some (.inl (0, n, .inl f))) (hn : 0 ≤ n) : F_X1_done (some t) 121 (some aa) h = F_X2_forgetsAll t h := by
  unfold F_X1_done
  rw [if_neg (by decide), if_neg (by decide), if_neg (by decide), if_neg (by decide), if_neg (by decide), if_neg (by decide), if_neg (by decide), if_neg (by decide), if_neg (by decide), if_neg (by decide), if_neg (by decide), if_pos rfl, v_isO C, bind_some9, thr_eta]
theorem dn_72 {h : HH} {t aa n : Nat} {fs : List Value} {f : Nat → Int32} (C : hF h t = some (.inr (2, fs))) (E : hF h aa = some (.inl (0, n, .inl f))) (hn : 3 ≤ n) : F_X1_done (some t) 72 (some aa) h = F_X2_allows t (f 0) (f 1) (f 2) h := by
  unfold F_X1_done
  rw [if_neg (by decide), if_neg (by decide), if_neg (by decide), if_neg (by decide), if_neg (by decide), if_neg (by decide), if_neg (by decide), if_neg (by decide), if_neg (by decide), if_neg (by decide), if_neg (by decide), if_neg (by decide), thr_eta]
  unfold F_X1_doneBeside
  rw [if_pos rfl, v_aldI E (show ix 0 0 n from ⟨by decide, by decide, by omega⟩), bind_some9, v_aldI E (show ix 1 1 n from ⟨by decide, by decide, by omega⟩), bind_some9, v_aldI E (show ix 2 2 n from ⟨by decide, by decide, by omega⟩), bind_some9, v_isO C, bind_some9, thr_eta]
theorem dn_76 {h : HH} {t aa n : Nat} {fs : List Value} {f : Nat → Int32} (C : hF h t = some (.inr (2, fs))) (E : hF h aa = some (.inl (0, n, .inl f))) (hn : 2 ≤ n) : F_X1_done (some t) 76 (some aa) h = F_X2_getsLine t (f 0) (f 1) h := by
  unfold F_X1_done
  rw [if_neg (by decide), if_neg (by decide), if_neg (by decide), if_neg (by decide), if_neg (by decide), if_neg (by decide), if_neg (by decide), if_neg (by decide), if_neg (by decide), if_neg (by decide), if_neg (by decide), if_neg (by decide), thr_eta]
  unfold F_X1_doneBeside
  rw [if_neg (by decide), if_pos rfl, v_aldI E (show ix 0 0 n from ⟨by decide, by decide, by omega⟩), bind_some9, v_aldI E (show ix 1 1 n from ⟨by decide, by decide, by omega⟩), bind_some9, v_isO C, bind_some9, thr_eta]
theorem dn_77 {h : HH} {t aa n : Nat} {fs : List Value} {f : Nat → Int32} (C : hF h t = some (.inr (2, fs))) (E : hF h aa = some (.inl (0, n, .inl f))) (hn : 1 ≤ n) : F_X1_done (some t) 77 (some aa) h = F_X2_meets t (f 0) h := by
  unfold F_X1_done
  rw [if_neg (by decide), if_neg (by decide), if_neg (by decide), if_neg (by decide), if_neg (by decide), if_neg (by decide), if_neg (by decide), if_neg (by decide), if_neg (by decide), if_neg (by decide), if_neg (by decide), if_neg (by decide), thr_eta]
  unfold F_X1_doneBeside
  rw [if_neg (by decide), if_neg (by decide), if_pos rfl, v_aldI E (show ix 0 0 n from ⟨by decide, by decide, by omega⟩), bind_some9, v_isO C, bind_some9, thr_eta]
theorem dn_78 {h : HH} {t aa n : Nat} {fs : List Value} {f : Nat → Int32} (C : hF h t = some (.inr (2, fs))) (E : hF h aa = some (.inl (0, n, .inl f))) (hn : 4 ≤ n) : F_X1_done (some t) 78 (some aa) h = F_X2_wants t (f 0) (f 1) (f 2) (f 3) h := by
  unfold F_X1_done
  rw [if_neg (by decide), if_neg (by decide), if_neg (by decide), if_neg (by decide), if_neg (by decide), if_neg (by decide), if_neg (by decide), if_neg (by decide), if_neg (by decide), if_neg (by decide), if_neg (by decide), if_neg (by decide), thr_eta]
  unfold F_X1_doneBeside
  rw [if_neg (by decide), if_neg (by decide), if_neg (by decide), if_pos rfl, v_aldI E (show ix 0 0 n from ⟨by decide, by decide, by omega⟩), bind_some9, v_aldI E (show ix 1 1 n from ⟨by decide, by decide, by omega⟩), bind_some9, v_aldI E (show ix 2 2 n from ⟨by decide, by decide, by omega⟩), bind_some9, v_aldI E (show ix 3 3 n from ⟨by decide, by decide, by omega⟩), bind_some9, v_isO C, bind_some9, thr_eta]
theorem dn_80 {h : HH} {t aa n : Nat} {fs : List Value} {f : Nat → Int32} (C : hF h t = some (.inr (2, fs))) (E : hF h aa = some (.inl (0, n, .inl f))) (hn : 1 ≤ n) : F_X1_done (some t) 80 (some aa) h = F_X2_puts t (f 0) h := by
  unfold F_X1_done
  rw [if_neg (by decide), if_neg (by decide), if_neg (by decide), if_neg (by decide), if_neg (by decide), if_neg (by decide), if_neg (by decide), if_neg (by decide), if_neg (by decide), if_neg (by decide), if_neg (by decide), if_neg (by decide), thr_eta]
  unfold F_X1_doneBeside
  rw [if_neg (by decide), if_neg (by decide), if_neg (by decide), if_neg (by decide), if_pos rfl, v_aldI E (show ix 0 0 n from ⟨by decide, by decide, by omega⟩), bind_some9, v_isO C, bind_some9, thr_eta]
theorem dn_87 {h : HH} {t aa n : Nat} {fs : List Value} {f : Nat → Int32} (C : hF h t = some (.inr (2, fs))) (E : hF h aa = some (.inl (0, n, .inl f))) (hn : 1 ≤ n) : F_X1_done (some t) 87 (some aa) h = F_X2_wraps t (f 0) h := by
  unfold F_X1_done
  rw [if_neg (by decide), if_neg (by decide), if_neg (by decide), if_neg (by decide), if_neg (by decide), if_neg (by decide), if_neg (by decide), if_neg (by decide), if_neg (by decide), if_neg (by decide), if_neg (by decide), if_neg (by decide), thr_eta]
  unfold F_X1_doneBeside
  rw [if_neg (by decide), if_neg (by decide), if_neg (by decide), if_neg (by decide), if_neg (by decide), if_pos rfl, v_aldI E (show ix 0 0 n from ⟨by decide, by decide, by omega⟩), bind_some9, v_isO C, bind_some9, thr_eta]
theorem dn_82 {h : HH} {t aa n : Nat} {fs : List Value} {f : Nat → Int32} (C : hF h t = some (.inr (2, fs))) (E : hF h aa = some (.inl (0, n, .inl f))) (hn : 2 ≤ n) : F_X1_done (some t) 82 (some aa) h = F_X2_turnsReset t (f 0) (f 1) h := by
  unfold F_X1_done
  rw [if_neg (by decide), if_neg (by decide), if_neg (by decide), if_neg (by decide), if_neg (by decide), if_neg (by decide), if_neg (by decide), if_neg (by decide), if_neg (by decide), if_neg (by decide), if_neg (by decide), if_neg (by decide), thr_eta]
  unfold F_X1_doneBeside
  rw [if_neg (by decide), if_neg (by decide), if_neg (by decide), if_neg (by decide), if_neg (by decide), if_neg (by decide), show F_X1_doneBeside_T146 (some t) 82 (some aa) h = _ from rfl]
  unfold F_X1_doneBeside_T146
  rw [v_aldI E (show ix 0 0 n from ⟨by decide, by decide, by omega⟩), bind_some9, v_aldI E (show ix 1 1 n from ⟨by decide, by decide, by omega⟩), bind_some9, v_isO C, bind_some9, thr_eta]
def iaE : String := "java/lang/IllegalArgumentException"
theorem act_c {h : HH} {x : Nat} {S : MS} (sign : Int32) (args : Option Nat) (o : OKH h) (z : hz0 h) (R : CX h x S) (m : Rm 100 3200 h) : ∃ h4, OKH h4 ∧ Gr (fun a => a < hSz h) 60 2500 h h4 ∧ DR (hSz h) h4 (hSz h) (S.1 0) ∧ hSz h < hSz h4 ∧ (∀ res5 h5 k, F_X1_done (some (hSz h)) sign args h4 = some (res5, h5) → Gr (fun a => a < hSz h) 20 300 h4 h5 → Ref res5 h5 k → ∃ q h', F_X1_act x sign args h = some (.inl (q, if k = 1 then "java/lang/IllegalArgumentException" else "java/lang/IllegalStateException"), h') ∧ Gr (fun a => a < hSz h) 100 3200 h h') ∧ (∀ u h5 S', F_X1_done (some (hSz h)) sign args h4 = some (.inr u, h5) → Gr (fun a => a < hSz h) 20 300 h4 h5 → DR (hSz h) h5 (hSz h) (S'.1 0) → GoodS (S'.1 0) → S'.1 2 = S.1 2 → S'.1 6 = S.1 6 → S'.2.1 3 = S.2.1 3 → S'.2.1 7 = S.2.1 7 → Rec S (S.1 0) S' → ∃ h', F_X1_act x sign args h = some (.inr u, h') ∧ Gr (fun _ => False) 100 3200 h h' ∧ KeepX XC h h' ∧ CX h' x S') := by
  obtain ⟨dk, kv, hi, tx, C, hb, D, G, K, H, T⟩ := id R
  obtain ⟨N, hN2, hN, _⟩ := G.2.2.2.2
  obtain ⟨h4, e4, g4, D4⟩ := d_copy o z D hN hN2 (m.mono (by decide) (by decide))
  have C1 : hF (hpush h (.inr (2, [.null, .null, .null, .null, .int 0])) 5) x = some (.inr (0, [.ref dk, kv, .ref hi, .ref tx])) := by rw [hF_push_ne _ _ _ (o.ne C)]; exact C
  obtain ⟨_, _, _, _, Cd, _⟩ := id D4
  refine ⟨h4, g4.ok, g4, D4, g4.ok.lt Cd.1, fun res5 h5 k e5 g5 rf => ?_, fun u h5 S' e5 g5 D5 G5 s2 s6 s3 s7 rc => ?_⟩
  · obtain ⟨q, rfl, hq⟩ := rf
    have g45 := g4.tr g5
    have m5 := m.gr g45 (by decide) (by decide)
    unfold F_X1_act
    rw [v_newO (m.mono (by decide) (by decide)), bind_some9, v_getR C1 rfl, bind_some9, show nnl (some (hSz h)) = some (hSz h) from rfl, bind_some9, e4, bind_some9, e5, thr_l]
    show ∃ q' h', (if ("FerryClocks$Refused" : String) = "FerryClocks$Refused" then _ else none) = _ ∧ _
    rw [if_pos rfl, v_getI hq rfl, bind_some9]
    have gE : Gr (fun a => a < hSz h) 100 3200 h (hskip h5 6) := (g45.tr (Gr.skip g5.ok 6 (fun w => by
      have w : hSz h5 < hSz h := w
      have := g45.2.2.2.1
      omega))).mono (by decide) (by decide)
    by_cases hk : k = 1
    · rw [if_pos hk, v_newE (m5.mono (by decide) (by decide)), bind_some9, if_pos hk]
      exact ⟨_, _, rfl, gE⟩
    · rw [if_neg hk, v_newE (m5.mono (by decide) (by decide)), bind_some9, if_neg hk]
      exact ⟨_, _, rfl, gE⟩
  · have g45 := g4.tr g5
    have R5 := R.gr o g45 (SM.rf S)
    have C5 : hF h5 x = some (.inr (0, [.ref dk, kv, .ref hi, .ref tx])) := by rw [g45.2.1 x (o.lt C)]; exact C
    obtain ⟨h', ec, gc, kc, R'⟩ := CX.changed (t := hSz h) (r := u) g5.ok R5 (D5.mono (Nat.zero_le _)) G5 s2 s6 s3 s7 rc
    unfold F_X1_act
    rw [v_newO (m.mono (by decide) (by decide)), bind_some9, v_getR C1 rfl, bind_some9, show nnl (some (hSz h)) = some (hSz h) from rfl, bind_some9, e4, bind_some9, e5, thr_r, v_isO C5, bind_some9, ec, b2_s]
    refine ⟨h', rfl, ((g45.sub (fun a w => w.elim)).tr gc).mono (by decide) (by decide), ⟨gc.1.trans g45.1, fun a e ha hx => kc.2.1 a e (by rw [g45.2.1 a (o.lt ha)]; exact ha) hx, fun a c fs ha => kc.2.2 a c fs (by rw [g45.2.1 a (o.lt ha)]; exact ha)⟩, R'⟩
/-- how a change comes out on both sides -/
def AO (h h' : HH) (x : Nat) (S3 : MS) (res : (Nat × String) ⊕ Int32) (v r : Int32) (vr : Int32 → Int32 → Prop) : Prop := Gr (fun _ => False) 120 3400 h h' ∧ KeepX XC h h' ∧ CX h' x S3 ∧ ((v = -11 ∧ ∃ q, res = .inl (q, "java/lang/IllegalArgumentException") ∧ S3.2.1 8 = 1) ∨ (∃ q, res = .inl (q, "java/lang/IllegalStateException") ∧ S3.2.1 8 = 2) ∨ ∃ u, res = .inr u ∧ vr u r ∧ S3.2.1 8 = 0)
theorem MF.sm {S S' : MS} {k : Int32} (m : MF S S' k) (hk : k ≠ 0) : SM S S' := ⟨(m.2.2.2.2.2.1 hk).1, m.2.1, (m.2.2.2.2.2.1 hk).2.1, m.2.2.1, m.2.2.2.1, (m.2.2.2.2.2.1 hk).2.2, m.2.2.2.2.1⟩
theorem KeepX.sub {X : Nat × Nat → Prop} {h h' : HH} (k : KeepX (fun _ => False) h h') : KeepX X h h' := ⟨k.1, fun a e q _ => k.2.1 a e q id, k.2.2⟩
/-- a change by an act on the zone: the model begins, acts, ends -/
theorem act_go {h : HH} {x : Nat} {S : MS} {sign : Int32} {args : Option Nat} {GO : Option (Int32 × MS)} {vr : Int32 → Int32 → Prop} (o : OKH h) (z : hz0 h) (R : CX h x S) (m : Rm 100 3200 h) (J : ∀ h4, OKH h4 → Gr (fun a => a < hSz h) 60 2500 h h4 → DR (hSz h) h4 (hSz h) ((beg S).1 0) → hSz h ≤ hSz h4 → Rm 20 300 h4 → JOp (hSz h) h4 (hSz h) (beg S) (F_X1_done (some (hSz h)) sign args h4) GO vr) : ∃ v S2 r S3 res h', GO = some (v, S2) ∧ P_X4_ends v S2 = some (r, S3) ∧ F_X1_act x sign args h = some (res, h') ∧ AO h h' x S3 res v r vr := by
  obtain ⟨h4, o4, g4, D4, hlt, p1, p2⟩ := act_c sign args o z R m
  obtain ⟨res, h5, v, S2, e1, e2, g5, sx, hc⟩ := J h4 o4 g4 D4 (by omega) (m.gr g4 (by decide) (by decide) |>.mono (by decide) (by decide))
  obtain ⟨dk, kv, hi, tx, C, hb, D, G, K, ⟨ea, hd, c, q, q1, q2, q3, q4, q5, q6, q7, q8⟩, T⟩ := id R
  have bad : ∀ (S3 : MS) (k : Int32), k ≠ 0 → MF S S3 k → ∀ h', Gr (fun a => a < hSz h) 100 3200 h h' → Gr (fun _ => False) 120 3400 h h' ∧ KeepX XC h h' ∧ CX h' x S3 := fun S3 k hk mf h' g => ⟨(g.sub (fun a w => w.elim)).mono (by decide) (by decide), KeepX.gr o g, R.gr o g (mf.sm hk)⟩
  rcases hc with ⟨rfl, rf⟩ | ⟨rfl, rf⟩ | ⟨u, rfl, nf, hv, D5, G5⟩
  · obtain ⟨S3, e3, mf⟩ := m_endsF sx (-11) (Or.inl rfl)
    rw [if_pos rfl] at mf
    obtain ⟨q, h', e, g⟩ := p1 _ _ 1 e1 g5 rf
    rw [if_pos rfl] at e
    obtain ⟨b1, b2', b3⟩ := bad S3 1 (by decide) mf h' g
    exact ⟨_, _, _, S3, _, h', e2, e3, e, b1, b2', b3, Or.inl ⟨rfl, q, rfl, mf.1⟩⟩
  · obtain ⟨S3, e3, mf⟩ := m_endsF sx (-12) (Or.inr rfl)
    rw [if_neg (by decide)] at mf
    obtain ⟨q, h', e, g⟩ := p1 _ _ 2 e1 g5 rf
    rw [if_neg (by decide)] at e
    obtain ⟨b1, b2', b3⟩ := bad S3 2 (by decide) mf h' g
    exact ⟨_, _, _, S3, _, h', e2, e3, e, b1, b2', b3, Or.inr (Or.inl ⟨q, rfl, mf.1⟩)⟩
  · obtain ⟨S3, e3, mf, s0⟩ := m_endsR sx nf q6 q7
    obtain ⟨h', e, g, k, R'⟩ := p2 u h5 S3 e1 g5 (by rw [s0]; exact D5) (by rw [s0]; exact G5) mf.2.1 mf.2.2.1 mf.2.2.2.1 mf.2.2.2.2.1 (mf.2.2.2.2.2.2 rfl)
    exact ⟨_, _, _, S3, _, h', e2, e3, e, g.mono (by decide) (by decide), k, R', Or.inr (Or.inr ⟨u, rfl, hv, mf.1⟩)⟩
