theorem zpure (Ls : Nat) (xs : Nat → Int) (hL : Ls ≤ 2048) (h1 : ∀ j, -2147483648 ≤ xs j) (h2 : ∀ j, xs j ≤ 2147483647) : ∃ M', f_Law_law Ls xs [] = some (1, M') := by
  sorry
