section XQS
variable {B L b : Nat} {xs : Nat → Int32} {h : HH} {S : MS}
theorem x_tightened (a1 a2 : Int32) (I : LW B L b xs h S) (m : Rm 50000 228000 h) : ∃ k h' r S', F_X0_tightened (some B) a1 a2 (some (B + 24)) h = some (k, h') ∧ P_X4_tightened a1 a2 S = some (r, S') ∧ XR B h h' S' k r.toInt64 := by
  obtain ⟨dk, kv, hi, tx, C, _⟩ := id I.2.2.2.2.1
  obtain ⟨res, h', r, S', E, M, Q⟩ := q_tightened a1 a2 I m
  obtain ⟨k, h'', W, X⟩ := q_done I E Q (fun q4 h2 => if q4.2 = "java/lang/IllegalArgumentException" then some ((1 : Int32), h2) else if q4.2 = "java/util/NoSuchElementException" then some ((2 : Int32), h2) else none) (fun q => if_pos rfl) (fun _ q => by show (if ("java/util/NoSuchElementException" : String) = "java/lang/IllegalArgumentException" then some ((1 : Int32), h') else if ("java/util/NoSuchElementException" : String) = "java/util/NoSuchElementException" then some ((2 : Int32), h') else none) = _; rw [if_neg (by decide), if_pos rfl]) (fun v => v.toInt64) (x := r.toInt64) (fun v hv => by rw [hv])
  refine ⟨k, h'', r, S', ?_, M, X⟩
  unfold F_X0_tightened
  rw [v_isO C, bind_some9]
  exact W
theorem x_leastOf (a1 : Int32) (I : LW B L b xs h S) (m : Rm 50000 228000 h) : ∃ k h' r S', F_X0_leastOf (some B) a1 (some (B + 24)) h = some (k, h') ∧ P_X4_leastOf a1 S = some (r, S') ∧ XR B h h' S' k r.toInt64 := by
  obtain ⟨dk, kv, hi, tx, C, _⟩ := id I.2.2.2.2.1
  obtain ⟨res, h', r, S', E, M, Q⟩ := q_leastOf a1 I m
  obtain ⟨k, h'', W, X⟩ := q_done I E Q (fun q4 h2 => if q4.2 = "java/lang/IllegalArgumentException" then some ((1 : Int32), h2) else if q4.2 = "java/util/NoSuchElementException" then some ((2 : Int32), h2) else none) (fun q => if_pos rfl) (fun _ q => by show (if ("java/util/NoSuchElementException" : String) = "java/lang/IllegalArgumentException" then some ((1 : Int32), h') else if ("java/util/NoSuchElementException" : String) = "java/util/NoSuchElementException" then some ((2 : Int32), h') else none) = _; rw [if_neg (by decide), if_pos rfl]) (fun v => v.toInt64) (x := r.toInt64) (fun v hv => by rw [hv])
  refine ⟨k, h'', r, S', ?_, M, X⟩
  unfold F_X0_leastOf
  rw [v_isO C, bind_some9]
  exact W
theorem x_mostOf (a1 : Int32) (I : LW B L b xs h S) (m : Rm 50000 228000 h) : ∃ k h' r S', F_X0_mostOf (some B) a1 (some (B + 24)) h = some (k, h') ∧ P_X4_mostOf a1 S = some (r, S') ∧ XR B h h' S' k r.toInt64 := by
  obtain ⟨dk, kv, hi, tx, C, _⟩ := id I.2.2.2.2.1
  obtain ⟨res, h', r, S', E, M, Q⟩ := q_mostOf a1 I m
  obtain ⟨k, h'', W, X⟩ := q_done I E Q (fun q4 h2 => if q4.2 = "java/lang/IllegalArgumentException" then some ((1 : Int32), h2) else if q4.2 = "java/util/NoSuchElementException" then some ((2 : Int32), h2) else none) (fun q => if_pos rfl) (fun _ q => by show (if ("java/util/NoSuchElementException" : String) = "java/lang/IllegalArgumentException" then some ((1 : Int32), h') else if ("java/util/NoSuchElementException" : String) = "java/util/NoSuchElementException" then some ((2 : Int32), h') else none) = _; rw [if_neg (by decide), if_pos rfl]) (fun v => v.toInt64) (x := r.toInt64) (fun v hv => by rw [hv])
  refine ⟨k, h'', r, S', ?_, M, X⟩
  unfold F_X0_mostOf
  rw [v_isO C, bind_some9]
  exact W
theorem x_isShelfEmpty (a1 : Int32) (I : LW B L b xs h S) (m : Rm 50000 228000 h) : ∃ k h' r S', F_X0_isShelfEmpty (some B) a1 (some (B + 24)) h = some (k, h') ∧ P_X4_isShelfEmpty a1 S = some (r, S') ∧ XR B h h' S' k (if r = 0 then (0 : Int64) else (1 : Int64)) := by
  obtain ⟨dk, kv, hi, tx, C, _⟩ := id I.2.2.2.2.1
  obtain ⟨res, h', r, S', E, M, Q⟩ := q_isShelfEmpty a1 I m
  obtain ⟨k, h'', W, X⟩ := q_done I E Q (fun q4 h2 => if q4.2 = "java/lang/IllegalArgumentException" then some ((1 : Int32), h2) else none) (fun q => if_pos rfl) (fun z => z.elim) (fun v => if v = 0 then (0 : Int64) else (1 : Int64)) (x := (if r = 0 then (0 : Int64) else (1 : Int64))) (fun v hv => by rw [hv])
  refine ⟨k, h'', r, S', ?_, M, X⟩
  unfold F_X0_isShelfEmpty
  rw [v_isO C, bind_some9]
  exact W
theorem x_stayOf (a1 a2 : Int32) (I : LW B L b xs h S) (m : Rm 50000 228000 h) : ∃ k h' r S', F_X0_stayOf (some B) a1 a2 (some (B + 24)) h = some (k, h') ∧ P_X4_stayOf a1 a2 S = some (r, S') ∧ XR B h h' S' k r.toInt64 := by
  obtain ⟨dk, kv, hi, tx, C, _⟩ := id I.2.2.2.2.1
  obtain ⟨res, h', r, S', E, M, Q⟩ := q_stayOf a1 a2 I m
  obtain ⟨k, h'', W, X⟩ := q_done I E Q (fun q4 h2 => if q4.2 = "java/lang/IllegalArgumentException" then some ((1 : Int32), h2) else none) (fun q => if_pos rfl) (fun z => z.elim) (fun v => v.toInt64) (x := r.toInt64) (fun v hv => by rw [hv])
  refine ⟨k, h'', r, S', ?_, M, X⟩
  unfold F_X0_stayOf
  rw [v_isO C, bind_some9]
  exact W
theorem x_fromOf (a1 : Int32) (I : LW B L b xs h S) (m : Rm 50000 228000 h) : ∃ k h' r S', F_X0_fromOf (some B) a1 (some (B + 24)) h = some (k, h') ∧ P_X4_fromOf a1 S = some (r, S') ∧ XR B h h' S' k r.toInt64 := by
  obtain ⟨dk, kv, hi, tx, C, _⟩ := id I.2.2.2.2.1
  obtain ⟨res, h', r, S', E, M, Q⟩ := q_fromOf a1 I m
  obtain ⟨k, h'', W, X⟩ := q_done I E Q (fun q4 h2 => if q4.2 = "java/lang/IllegalArgumentException" then some ((1 : Int32), h2) else none) (fun q => if_pos rfl) (fun z => z.elim) (fun v => v.toInt64) (x := r.toInt64) (fun v hv => by rw [hv])
  refine ⟨k, h'', r, S', ?_, M, X⟩
  unfold F_X0_fromOf
  rw [v_isO C, bind_some9]
  exact W
theorem x_toOf (a1 : Int32) (I : LW B L b xs h S) (m : Rm 50000 228000 h) : ∃ k h' r S', F_X0_toOf (some B) a1 (some (B + 24)) h = some (k, h') ∧ P_X4_toOf a1 S = some (r, S') ∧ XR B h h' S' k r.toInt64 := by
  obtain ⟨dk, kv, hi, tx, C, _⟩ := id I.2.2.2.2.1
  obtain ⟨res, h', r, S', E, M, Q⟩ := q_toOf a1 I m
  obtain ⟨k, h'', W, X⟩ := q_done I E Q (fun q4 h2 => if q4.2 = "java/lang/IllegalArgumentException" then some ((1 : Int32), h2) else none) (fun q => if_pos rfl) (fun z => z.elim) (fun v => v.toInt64) (x := r.toInt64) (fun v hv => by rw [hv])
  refine ⟨k, h'', r, S', ?_, M, X⟩
  unfold F_X0_toOf
  rw [v_isO C, bind_some9]
  exact W
theorem x_doesReset (a1 a2 : Int32) (I : LW B L b xs h S) (m : Rm 50000 228000 h) : ∃ k h' r S', F_X0_doesReset (some B) a1 a2 (some (B + 24)) h = some (k, h') ∧ P_X4_doesReset a1 a2 S = some (r, S') ∧ XR B h h' S' k (if r = 0 then (0 : Int64) else (1 : Int64)) := by
  obtain ⟨dk, kv, hi, tx, C, _⟩ := id I.2.2.2.2.1
  obtain ⟨res, h', r, S', E, M, Q⟩ := q_doesReset a1 a2 I m
  obtain ⟨k, h'', W, X⟩ := q_done I E Q (fun q4 h2 => if q4.2 = "java/lang/IllegalArgumentException" then some ((1 : Int32), h2) else none) (fun q => if_pos rfl) (fun z => z.elim) (fun v => if v = 0 then (0 : Int64) else (1 : Int64)) (x := (if r = 0 then (0 : Int64) else (1 : Int64))) (fun v hv => by rw [hv])
  refine ⟨k, h'', r, S', ?_, M, X⟩
  unfold F_X0_doesReset
  rw [v_isO C, bind_some9]
  exact W
end XQS
