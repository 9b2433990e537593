section XQS
variable {B L b : Nat} {xs : Nat → Int32} {h : HH} {S : MS}
theorem x_momentsBeyond (a1 : Int32) (I : LW B L b xs h S) (m : Rm 50000 228000 h) : ∃ k h' r S', F_X0_momentsBeyond (some B) a1 (some (B + 24)) h = some (k, h') ∧ P_X4_momentsBeyond a1 S = some (r, S') ∧ XR B h h' S' k r.toInt64 := by
  obtain ⟨dk, kv, hi, tx, C, _⟩ := id I.2.2.2.2.1
  obtain ⟨res, h', r, S', E, M, Q⟩ := q_momentsBeyond a1 I m
  obtain ⟨k, h'', W, X⟩ := q_done I E Q (fun q4 h2 => if q4.2 = "java/lang/IllegalArgumentException" then some ((1 : Int32), h2) else if q4.2 = "java/util/NoSuchElementException" then some ((2 : Int32), h2) else none) (fun q => if_pos rfl) (fun _ q => by show (if ("java/util/NoSuchElementException" : String) = "java/lang/IllegalArgumentException" then some ((1 : Int32), h') else if ("java/util/NoSuchElementException" : String) = "java/util/NoSuchElementException" then some ((2 : Int32), h') else none) = _; rw [if_neg (by decide), if_pos rfl]) (fun v => v.toInt64) (x := r.toInt64) (fun v hv => by rw [hv])
  refine ⟨k, h'', r, S', ?_, M, X⟩
  unfold F_X0_momentsBeyond
  rw [v_isO C, bind_some9]
  exact W
theorem x_hasMoment (a1 a2 a3 : Int32) (I : LW B L b xs h S) (m : Rm 50000 228000 h) : ∃ k h' r S', F_X0_hasMoment (some B) a1 a2 a3 (some (B + 24)) h = some (k, h') ∧ P_X4_hasMoment a1 a2 a3 S = some (r, S') ∧ XR B h h' S' k (if r = 0 then (0 : Int64) else (1 : Int64)) := by
  obtain ⟨dk, kv, hi, tx, C, _⟩ := id I.2.2.2.2.1
  obtain ⟨res, h', r, S', E, M, Q⟩ := q_hasMoment a1 a2 a3 I m
  obtain ⟨k, h'', W, X⟩ := q_done I E Q (fun q4 h2 => if q4.2 = "java/lang/IllegalArgumentException" then some ((1 : Int32), h2) else none) (fun q => if_pos rfl) (fun z => z.elim) (fun v => if v = 0 then (0 : Int64) else (1 : Int64)) (x := (if r = 0 then (0 : Int64) else (1 : Int64))) (fun v hv => by rw [hv])
  refine ⟨k, h'', r, S', ?_, M, X⟩
  unfold F_X0_hasMoment
  rw [v_isO C, bind_some9]
  exact W
theorem x_meanBits (a1 : Int32) (I : LW B L b xs h S) (m : Rm 50000 228000 h) : ∃ k h' r S', F_X0_meanBits (some B) a1 (some (B + 24)) h = some (k, h') ∧ P_X4_meanBits a1 S = some (r, S') ∧ XR B h h' S' k r := by
  obtain ⟨dk, kv, hi, tx, C, _⟩ := id I.2.2.2.2.1
  obtain ⟨res, h', r, S', E, M, Q⟩ := q_meanBits a1 I m
  obtain ⟨k, h'', W, X⟩ := q_done I E Q (fun q4 h2 => if q4.2 = "java/lang/IllegalArgumentException" then some ((1 : Int32), h2) else if q4.2 = "java/util/NoSuchElementException" then some ((2 : Int32), h2) else none) (fun q => if_pos rfl) (fun _ q => by show (if ("java/util/NoSuchElementException" : String) = "java/lang/IllegalArgumentException" then some ((1 : Int32), h') else if ("java/util/NoSuchElementException" : String) = "java/util/NoSuchElementException" then some ((2 : Int32), h') else none) = _; rw [if_neg (by decide), if_pos rfl]) (fun v => v) (x := r) (fun v hv => by rw [hv])
  refine ⟨k, h'', r, S', ?_, M, X⟩
  unfold F_X0_meanBits
  rw [v_isO C, bind_some9]
  exact W
end XQS
