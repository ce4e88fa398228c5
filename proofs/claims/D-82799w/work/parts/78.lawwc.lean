/-! THE LAW'S RUN IN THE PURE MACHINE (owed: the pure side) -/
section LAWWC
def mem0 : PMem := (fun _ _ => 0, fun _ _ => 0, fun _ _ => none, fun _ => (9, 0), 0, 0)
theorem law_wc (S : Nat × (Nat → Int32)) (hS : S.1 ≤ 384) : WC S 1000 k_L_law [xScr] mem0 (fun o => ∃ m', o = .inl (some (.int 1), m') ∧ gN m' ≤ 601024 ∧ gZ m' ≤ 7293034) := by
  sorry
end LAWWC
