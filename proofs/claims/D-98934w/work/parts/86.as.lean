/-! THE PLAIN LAW, 26: a Reign as another -/
set_option maxRecDepth 100000
/-- in h lies a Reign at q -/
def rx_in (h : cz_H) (q : Nat) (R : rx_R) : Prop := ∀ k, k < 8 → h.2.2.2 (q + k) = some (rx_cell q R k)
def rx_apart (r q : Nat) : Prop := q + 8 ≤ r ∨ r + 8 ≤ q
section RXN
variable {h : cz_H} {r q : Nat} {R S : rx_R}
theorem rx_in.over (hi : rx_in h q S) (ha : rx_apart r q) : rx_in (rx_set h r R) q S := by
  intro k hk
  rw [rx_out h r R (by rcases ha with e | e <;> omega)]
  exact hi k hk
theorem rx_in.set (h : cz_H) (r : Nat) (R : rx_R) : rx_in (rx_set h r R) r R := fun k hk => rx_at h r R hk
theorem rx_in.eq (hi : rx_in h q S) : rx_set h q S = h := rx_id hi
theorem rx_comm (ha : rx_apart r q) : rx_set (rx_set h r R) q S = rx_set (rx_set h q S) r R := by
  unfold rx_set
  refine Prod.ext rfl (Prod.ext rfl (Prod.ext rfl ?_))
  funext a
  dsimp only
  by_cases h1 : q ≤ a ∧ a < q + 8
  · rw [if_pos h1, if_neg (by rcases ha with e | e <;> omega), if_pos h1]
  · rw [if_neg h1, if_neg h1]
end RXN
