section XQS
variable {B L b : Nat} {xs : Nat → Int32} {h : HH} {S : MS}
theorem x_longestDelay (a1 a2 a3 : Int32) (I : LW B L b xs h S) (m : Rm 50000 228000 h) : ∃ k h' r S', F_X0_longestDelay (some B) a1 a2 a3 (some (B + 24)) h = some (k, h') ∧ P_X4_longestDelay a1 a2 a3 S = some (r, S') ∧ XR B h h' S' k r.toInt64 := by
  obtain ⟨dk, kv, hi, tx, C, _⟩ := id I.2.2.2.2.1
  obtain ⟨res, h', r, S', E, M, Q⟩ := q_longestDelay a1 a2 a3 I m
  obtain ⟨k, h'', W, X⟩ := q_done I E Q (fun q4 h2 => if q4.2 = "java/lang/IllegalArgumentException" then some ((1 : Int32), h2) else if q4.2 = "java/util/NoSuchElementException" then some ((2 : Int32), h2) else none) (fun q => if_pos rfl) (fun _ q => by show (if ("java/util/NoSuchElementException" : String) = "java/lang/IllegalArgumentException" then some ((1 : Int32), h') else if ("java/util/NoSuchElementException" : String) = "java/util/NoSuchElementException" then some ((2 : Int32), h') else none) = _; rw [if_neg (by decide), if_pos rfl]) (fun v => v.toInt64) (x := r.toInt64) (fun v hv => by rw [hv])
  refine ⟨k, h'', r, S', ?_, M, X⟩
  unfold F_X0_longestDelay
  rw [v_isO C, bind_some9]
  exact W
end XQS
