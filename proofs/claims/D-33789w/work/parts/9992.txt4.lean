/-! texts: the acts on the trial desk, beside the reader's own array -/
def DRn (na n : Nat) (h : HH) (t : Nat) (s : Nat → Int32) : Prop := ∃ st al sh z, DC h t st al sh z (s 193) ∧ n ≤ t ∧ ZR h z (Zs s 0) ∧ StR n h st s ∧ ShR n h sh s ∧ ∃ (N ar cap : Nat) (q : Nat → Option Nat) (la le mo : Nat → Nat), LiQ n h al s N ar cap q la le mo ∧ ∀ l, l < N → le l ≠ na ∧ mo l ≠ na
theorem DRn.dr {na n : Nat} {h : HH} {t : Nat} {s : Nat → Int32} (R : DRn na n h t s) : DR n h t s := by
  obtain ⟨st, al, sh, z, C, ht, Z, S, H, N, ar, cap, q, la, le, mo, L, _⟩ := R
  exact ⟨st, al, sh, z, C, ht, Z, S, H, N, ar, cap, q, la, le, mo, L⟩
theorem DR.drn {na n : Nat} {h : HH} {t : Nat} {s : Nat → Int32} (o : OKH h) (hna : hSz h ≤ na) (R : DR n h t s) : DRn na n h t s := by
  obtain ⟨st, al, sh, z, C, ht, Z, S, H, N, ar, cap, q, la, le, mo, L⟩ := R
  refine ⟨st, al, sh, z, C, ht, Z, S, H, N, ar, cap, q, la, le, mo, L, fun l hl => ?_⟩
  obtain ⟨_, _, ⟨f, e1, _⟩, ⟨g, e2, _⟩, _⟩ := L.2.2.2.1 l hl
  have h1 := o.lt e1
  have h2 := o.lt e2
  exact ⟨by omega, by omega⟩
theorem LiQ.keep {X : Nat × Nat → Prop} {h h' : HH} {s s' : Nat → Int32} {n al N ar cap : Nat} {q : Nat → Option Nat} {la le mo : Nat → Nat} (k : KeepX X h h') (x8 : ¬ X (0, 8)) (x2 : ∀ n, n ∈ capL → ¬ X (3, n)) (x4 : ¬ X (0, 4)) (x : ¬ X (1, 3)) (a : ∀ i, 102 ≤ i → i < 193 → s' i = s i) (L : LiQ n h al s N ar cap q la le mo) : LiQ n h' al s' N ar cap q la le mo := by
  obtain ⟨e1, e2, A, L, r⟩ := L
  exact ⟨by rw [a 102 (by omega) (by omega)]; exact e1, e2, A.keep k x8 x2, fun l hl => ⟨(L l hl).1, (L l hl).2.keep k x4 x (by omega) (fun i hi1 hi2 => a i (by omega) hi2)⟩, r⟩
theorem DRn.gr {na n : Nat} {h h' : HH} {t c k : Nat} {s : Nat → Int32} (o : OKH h) (g : Gr (fun a => a < hSz h) c k h h') (R : DRn na n h t s) : DRn na n h' t s := by
  obtain ⟨st, al, sh, z, C, ht, Z, S, H, N, ar, cap, q, la, le, mo, L, ne⟩ := R
  have kx : KeepX (fun _ => False) h h' := KeepX.gr o g
  exact ⟨st, al, sh, z, C.gr g (o.lt C.1), ht, Z.keep kx id id, S.keep kx id (fun _ _ _ => rfl), H.keep kx id id id (fun _ _ _ => rfl), N, ar, cap, q, la, le, mo, L.keep kx id (fun _ _ => id) id id (fun _ _ _ => rfl), ne⟩
/-- the reader's own cells alone are other ones -/
theorem DRn.gn {na n r tr B : Nat} {h h' : HH} {t : Nat} {s : Nat → Int32} {x bg rs cs mn x' bg' rs' cs' mn' : Int32} {nm nm' : Nat → Int32} (Q : Rd h r tr na B x bg rs cs mn nm) (Q' : Rd h' r tr na B x' bg' rs' cs' mn' nm') (g : GN r na h h') (R : DRn na n h t s) : DRn na n h' t s := by
  obtain ⟨st, al, sh, z, C, ht, Z, S, H, N, ar, cap, q, la, le, mo, L, ne⟩ := R
  have kp : ∀ a e, hF h a = some e → kd e ≠ (0, 6) → a ≠ na → hF h' a = some e := fun a e ha k1 k2 => by
    rw [g.2.1 a ⟨fun w => ?_, k2⟩]
    · exact ha
    · rw [w, Q.1] at ha
      cases ha
      exact k1 rfl
  have kx : KeepX (fun k => k = (0, 6) ∨ k = (1, 3)) h h' := ⟨g.1, fun a e ha hx => kp a e ha (fun w => hx (Or.inl w)) (fun w => by
    rw [w, Q.2.1] at ha
    cases ha
    exact hx (Or.inr rfl)), fun a c fs ha => by
    by_cases w : a = r
    · subst w
      rw [Q.1] at ha
      cases ha
      exact ⟨_, Q'.1⟩
    · exact ⟨fs, by
        rw [g.2.1 a ⟨w, fun w2 => ?_⟩]
        · exact ha
        · rw [w2, Q.2.1] at ha
          cases ha⟩⟩
  obtain ⟨e1, e2, A, LL, rest⟩ := L
  refine ⟨st, al, sh, z, ⟨kx.2.1 _ _ C.1 (show ¬ (((0, 2) : Nat × Nat) = (0, 6) ∨ ((0, 2) : Nat × Nat) = (1, 3)) by decide), by rw [g.b]; exact C.2⟩, ht, Z.keep kx (by decide) (by decide), S.keep kx (by decide) (fun _ _ _ => rfl), H.keep kx (by decide) (by decide) (by decide) (fun _ _ _ => rfl), N, ar, cap, q, la, le, mo, ⟨e1, e2, A.keep kx (by decide) (fun n _ w => by rcases w with w | w <;> cases w), fun l hl => ?_, rest⟩, ne⟩
  obtain ⟨ql, c1, ⟨f, c2, c3⟩, ⟨f2, c4, c5⟩, b1, b2, b3⟩ := LL l hl
  exact ⟨ql, kx.2.1 _ _ c1 (show ¬ (((0, 4) : Nat × Nat) = (0, 6) ∨ ((0, 4) : Nat × Nat) = (1, 3)) by decide), ⟨f, kp _ _ c2 (fun w => by cases w) (ne l hl).1, c3⟩, ⟨f2, kp _ _ c4 (fun w => by cases w) (ne l hl).2, c5⟩, by rw [g.b]; exact b1, by rw [g.b]; exact b2, by rw [g.b]; exact b3⟩
/-- how an act on the zone comes out on both sides -/
def NOp (na n : Nat) (h : HH) (t : Nat) (S : MS) (F : Option (((Nat × String) ⊕ Int32) × HH)) (go : Option (Int32 × MS)) : Prop := ∃ res h' v S', F = some (res, h') ∧ go = some (v, S') ∧ Gr (Pt h t) 20 200 h h' ∧ SX S S' ∧ ((v = -11 ∧ Ref res h' 1) ∨ (v = -12 ∧ Ref res h' 2) ∨ ∃ u, res = .inr u ∧ noF v ∧ DRn na n h' t (S'.1 0) ∧ GoodS (S'.1 0))
theorem n_arg {na n : Nat} {h h' : HH} {t : Nat} {S : MS} {F : Option (((Nat × String) ⊕ Int32) × HH)} {go : Option (Int32 × MS)} {res : (Nat × String) ⊕ Int32} (e1 : F = some (res, h')) (g : Gr (Pt h t) 20 200 h h') (r : Ref res h' 1) (e2 : go = some (-11, S)) : NOp na n h t S F go := ⟨res, h', -11, S, e1, e2, g, SX.rf S, Or.inl ⟨rfl, r⟩⟩
theorem n_zone {na n : Nat} {h h' : HH} {t : Nat} {S S' : MS} {F : Option (((Nat × String) ⊕ Int32) × HH)} {go : Option (Int32 × MS)} {vr : Int32 → Int32 → Prop} {res : (Nat × String) ⊕ Int32} {v w w0 : Int32} {st al sh z0 N ar cap : Nat} {q : Nat → Option Nat} {la le mo : Nat → Nat} {x y : Option (Int32 × OD)} (o : OKH h) (C0 : DC h t st al sh z0 w0) (ht : n ≤ t) (Sr : StR n h st (S.1 0)) (H : ShR n h sh (S.1 0)) (L : LiQ n h al (S.1 0) N ar cap q la le mo) (ne : ∀ l, l < N → le l ≠ na ∧ mo l ≠ na) (G : GoodS (S.1 0)) (e1 : F = some (res, h')) (g : Gr (Pt h t) 20 200 h h') (dO : DOut h' t st al sh w res x) (e2 : go = some (v, S')) (sx : SX S S') (mO : MOut S S' w v y) (hxy : (x = none ∧ y = none) ∨ ∃ u u' E, x = some (u, E) ∧ y = some (u', E) ∧ GZ E ∧ noF u' ∧ vr u u') : NOp na n h t S F go := by
  refine ⟨res, h', v, S', e1, e2, g, sx, ?_⟩
  rcases hxy with ⟨rfl, rfl⟩ | ⟨u, u', E, rfl, rfl, GE, nf, hv⟩
  · exact Or.inr (Or.inl ⟨mO, dO⟩)
  · obtain ⟨rfl, z, b, d, C, Z, r⟩ := dO
    obtain ⟨rfl, r2, w2, a⟩ := mO
    have a' : agr (S.1 0) (S'.1 0) := fun i h1 h2 => a i h1 h2
    have kx : KeepX (fun k => k = (0, 2)) h h' := KeepX.one o g C0.1 C.1 rfl rfl
    exact Or.inr (Or.inr ⟨u, rfl, nf, ⟨st, al, sh, z, by rw [w2]; exact C, ht, ZR.congr ⟨b, d, Z, r⟩ (fun i hi => (Zs_rep r2 i hi).symm), Sr.keep kx (by decide) (fun i h1 h2 => a' i (by omega) (by omega)), H.keep kx (by decide) (by decide) (by decide) (fun i h1 h2 => a' i (by omega) (by omega)), N, ar, cap, q, la, le, mo, L.keep kx (by decide) (fun n _ z => by cases z) (by decide) (by decide) (fun i h1 h2 => a' i (by omega) h2), ne⟩, GoodS.zone G r2 GE a'⟩)
section NN
variable {na n : Nat} {h : HH} {t : Nat} {S : MS}
theorem n_tells (a1 a2 a3 : Int32) (o : OKH h) (R : DRn na n h t (S.1 0)) (G : GoodS (S.1 0)) (m : Rm 20 300 h) : NOp na n h t S (F_X2_tells t a1 a2 a3 h) (P_X4_goTell a1 a2 a3 S) := by
  obtain ⟨st, al, sh, z0, C, ht, ⟨b0, d0, Z0, r0⟩, Sr, H, N, ar, cap, q, la, le, mo, L, ne⟩ := R
  obtain ⟨res, h', e, g, p1, p2⟩ := a_tells a1 a2 a3 o C Z0 r0 G.2.1 (m.mono (by decide) (by decide))
  obtain ⟨q1, q2⟩ := m_goTell a1 a2 a3 G.1 G.2.1
  by_cases hp : ∃ i j, tellP a1 a2 a3 i j
  · obtain ⟨i, j, p⟩ := hp
    obtain ⟨v, S', e2, sx, mo⟩ := q2 i j p
    refine n_zone (vr := vr1) o C ht Sr H L ne G e g (p2 i j p) e2 sx mo (hx_one (fun hk => ?_))
    obtain ⟨hi, hj, nij, _, _, hb⟩ := p
    have ec := EC_tell G.2.1 hi hj nij hb
    refine GZ.of_take (D := oplain) hk ec.1 ec.2.1 (fun k hk2 x hx => ?_)
    unfold otell oset at hx
    by_cases ek : k = 4 * i + j
    · rw [if_pos ek] at hx
      rcases omin_some hx with q | q
      · exact (G.2.1.2.2.1 _ (by omega) x q).1
      · cases q
        have := hb.1
        omega
    · rw [if_neg ek] at hx
      exact (G.2.1.2.2.1 _ hk2 x hx).1
  · exact n_arg e g (p1 hp) (q1 hp)
theorem n_tightens {B : OD} (o : OKH h) (R : DRn na n h t (S.1 0)) (G : GoodS (S.1 0)) (hb : rep 100000 (sub (S.1 1) 0) B) (m : Rm 20 300 h) : NOp na n h t S (F_X2_tightens t h) (P_X4_goTighten S) := by
  obtain ⟨st, al, sh, z0, C, ht, ⟨b0, d0, Z0, r0⟩, Sr, H, N, ar, cap, q, la, le, mo, L, ne⟩ := R
  obtain ⟨res, h', e, g, dO⟩ := a_tightens o C Z0 r0 G.2.1 (m.mono (by decide) (by decide))
  obtain ⟨v, S', e2, sx, mo⟩ := m_goTighten G.1 G.2.1 hb
  refine n_zone (vr := vrB B (Zs (S.1 0) 0)) o C ht Sr H L ne G e g dO e2 sx mo ?_
  by_cases hn2 : nn (otl (Zs (S.1 0) 0) 4)
  · have T := G.2.1.Tt hn2
    rw [if_pos (bq_t.mpr hn2)]
    by_cases hk : takeOK (otl (Zs (S.1 0) 0) 4)
    · rw [sTake_t hk, if_pos (bq_t.mpr ⟨hn2, hk⟩)]
      exact Or.inr ⟨_, _, _, rfl, rfl, GZ_clo T.1 T.2.1 T.2.2.1 T.2.2.2.1 hk.2, dcnt_noF _ _, fun q => dcnt_congr q _ 16 (Nat.le_refl _)⟩
    · rw [sTake_f hk, bq_f.mpr (fun q => hk q.2)]
      exact Or.inl ⟨rfl, rfl⟩
  · rw [bq_f.mpr hn2, bq_f.mpr (fun q => hn2 q.1)]
    exact Or.inl ⟨rfl, rfl⟩
theorem n_resets (a1 a2 : Int32) (o : OKH h) (R : DRn na n h t (S.1 0)) (G : GoodS (S.1 0)) (m : Rm 20 300 h) : NOp na n h t S (F_X2_resets t a1 a2 h) (P_X4_goReset a1 a2 S) := by
  obtain ⟨st, al, sh, z0, C, ht, ⟨b0, d0, Z0, r0⟩, Sr, H, N, ar, cap, q, la, le, mo, L, ne⟩ := R
  obtain ⟨res, h', e, g, p1, p2⟩ := a_resets a1 a2 o C Z0 r0 G.2.1 (m.mono (by decide) (by decide))
  obtain ⟨q1, q2⟩ := m_goReset a1 a2 G.1 G.2.1
  by_cases hp : isC 2 a1 ∧ 0 ≤ a2.toInt ∧ a2.toInt ≤ 9
  · obtain ⟨⟨c, hc, e1⟩, hb⟩ := hp
    obtain ⟨v, S', e2, sx, mo⟩ := q2 c hc e1 hb
    exact n_zone (vr := vrE) o C ht Sr H L ne G e g (p2 c hc e1 hb) e2 sx mo (hx_work (fun hn2 => ⟨EC_reset (G.2.1.Tt hn2) (by omega) hb, nn_reset (G.2.1.Tt hn2) (by omega) _⟩) (fun hn2 k => ⟨had_noF (G.2.1.Tt hn2) (by omega), rfl⟩))
  · exact n_arg e g (p1 hp) (q1 hp)
theorem n_delays (o : OKH h) (R : DRn na n h t (S.1 0)) (G : GoodS (S.1 0)) (m : Rm 20 300 h) : NOp na n h t S (F_X2_delays t h) (P_X4_goDelay S) := by
  obtain ⟨st, al, sh, z0, C, ht, ⟨b0, d0, Z0, r0⟩, Sr, H, N, ar, cap, q, la, le, mo, L, ne⟩ := R
  obtain ⟨res, h', e, g, dO⟩ := a_delays o C Z0 r0 G.2.1 (m.mono (by decide) (by decide))
  obtain ⟨v, S', e2, sx, mo⟩ := m_goDelay G.1 G.2.1
  exact n_zone (vr := vrE) o C ht Sr H L ne G e g dO e2 sx mo (hx_work (fun hn2 => ⟨EC_delay (G.2.1.Tt hn2), nn_delay (G.2.1.Tt hn2)⟩) (fun hn2 k => ⟨ocnt_noF _, rfl⟩))
theorem n_frees {B : OD} (a1 : Int32) (o : OKH h) (R : DRn na n h t (S.1 0)) (G : GoodS (S.1 0)) (hb : rep 100000 (sub (S.1 1) 0) B) (m : Rm 20 300 h) : NOp na n h t S (F_X2_frees t a1 h) (P_X4_goFree a1 S) := by
  obtain ⟨st, al, sh, z0, C, ht, ⟨b0, d0, Z0, r0⟩, Sr, H, N, ar, cap, q, la, le, mo, L, ne⟩ := R
  obtain ⟨res, h', e, g, p1, p2⟩ := a_frees a1 o C Z0 r0 G.2.1 (m.mono (by decide) (by decide))
  obtain ⟨q1, q2⟩ := m_goFree a1 G.1 G.2.1 hb
  by_cases hp : isC 2 a1
  · obtain ⟨c, hc, e1⟩ := hp
    obtain ⟨v, S', e2, sx, mo⟩ := q2 c hc e1
    exact n_zone (vr := vrB B (Zs (S.1 0) 0)) o C ht Sr H L ne G e g (p2 c hc e1) e2 sx mo (hx_workB (fun hn2 => ⟨EC_free (G.2.1.Tt hn2) (by omega), nn_free (G.2.1.Tt hn2) (by omega)⟩) (fun k q => dcnt_congr q _ 16 (Nat.le_refl _)))
  · exact n_arg e g (p1 hp) (q1 hp)
end NN
