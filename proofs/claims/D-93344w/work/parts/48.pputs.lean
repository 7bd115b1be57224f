/-! the reference's row put aside, and put back -/
set_option maxRecDepth 100000
section PUT
variable {U : Nat → Int32} {h0 : St} {z : Int32} {T : Tn} {ab : Nat}
theorem TR.of3 {h h' : St} (k : TR h0 h T z U ab) (e : ∀ b, b ≠ 3 → h' b = h b) : TR h0 h' T z U ab := by
  refine ⟨fun i a b c => ?_, ?_, fun i a => ?_, ?_, fun b i hs => ?_⟩
  · rw [e 1 (by decide)]
    exact k.1 i a b c
  · rw [e 1 (by decide)]
    exact k.2.1
  · rw [e 1 (by decide)]
    exact k.2.2.1 i a
  · rw [e 0 (by decide)]
    exact k.2.2.2.1
  · have : b ≠ 3 := by
      intro q
      subst q
      simp [tS, tN] at hs
    rw [e b this]
    exact k.2.2.2.2 b i hs
/-- one row copied into another, 340 places -/
theorem tw_cp340 (h : St) (a d : Nat) (hne : a ≠ d) : ∃ h', iter (L := St × Int32) (T := St) (un2 fun s1a s1b =>
    if (340 : Int32) ≤ s1b then
      some (.inr s1a)
    else
      (rd (s1a a) 340 s1b).bind fun x4 =>
      (wr s1a d 340 s1b x4).bind fun g5 =>
      some (.inl (g5, (s1b + (1 : Int32))))) (h, (0 : Int32)) = some h' ∧ (∀ b, b ≠ d → h' b = h b) ∧ (∀ i, i < 340 → h' d i = h a i) ∧ ∀ i, 340 ≤ i → h' d i = h d i := by
  obtain ⟨t, e1, e2⟩ := iter_inv (body := un2 fun s1a s1b =>
    if (340 : Int32) ≤ s1b then
      some (.inr s1a)
    else
      (rd (s1a a) 340 s1b).bind fun x4 =>
      (wr s1a d 340 s1b x4).bind fun g5 =>
      some (.inl (g5, (s1b + (1 : Int32))))) (fun i s => ∃ h', s = (h', nI i) ∧ (∀ b, b ≠ d → h' b = h b) ∧ (∀ j, j < i → h' d j = h a j) ∧ ∀ j, i ≤ j → h' d j = h d j) (fun t => (∀ b, b ≠ d → t b = h b) ∧ (∀ j, j < 340 → t d j = h a j) ∧ ∀ j, 340 ≤ j → t d j = h d j) 340
    (by
      rintro i hi s ⟨h1, rfl, f1, r1, r2⟩
      dsimp only [un2]
      rw [if_neg (show ¬ (340 : Int32) ≤ nI i from nI_ge (b := 340) hi (by omega)), rd_n hi (by decide), Option.bind_some, wr_n hi (by decide), Option.bind_some, nI_1]
      refine ⟨_, rfl, _, rfl, fun b nb => ?_, fun j hj => ?_, fun j hj => ?_⟩
      · rw [up2_o nb]
        exact f1 b nb
      · rw [up2_row]
        by_cases e : j = i
        · subst e
          rw [pk_us, f1 a hne]
        · rw [pk_un e]
          exact r1 j (by omega)
      · rw [up2_row, pk_un (by omega)]
        exact r2 j (by omega))
    (by
      rintro s ⟨h1, rfl, f1, r1, r2⟩
      exact ⟨h1, rfl, f1, r1, r2⟩) 340 0 (h, (0 : Int32)) (by omega) ⟨h, rfl, fun _ _ => rfl, fun j hj => by omega, fun _ _ => rfl⟩
  exact ⟨t, e1, e2⟩
theorem tw_puts {h : St} (k : TR h0 h T z U ab) : ∃ h', tF_puts h = some h' ∧ TR h0 h' T z U ab ∧ (∀ b, b ≠ 3 → h' b = h b) ∧ ∀ i, i < 340 → h' 3 i = h 1 i := by
  obtain ⟨h', a1, a2, a3, -⟩ := tw_cp340 h 1 3 (by decide)
  exact ⟨h', a1, k.of3 a2, a2, a3⟩
/-- what was put aside stands again -/
theorem tw_putsBack {h o : St} {T' : Tn} {z' : Int32} (k : TR h0 h T' z' U ab) (ko : TR h0 o T z U ab) (h3 : ∀ i, i < 340 → h 3 i = o 1 i) : ∃ h', tF_putsBack h = some h' ∧ TR h0 h' T z U ab ∧ (∀ b, b ≠ 1 → h' b = h b) := by
  obtain ⟨h', a1, a2, a3, a4⟩ := tw_cp340 h 3 1 (by decide)
  refine ⟨h', a1, ⟨fun i b c d => ?_, ?_, fun i hi => ?_, ?_, fun b i hs => ?_⟩, a2⟩
  · rw [a3 i (by omega), h3 i (by omega)]
    exact ko.1 i b c d
  · rw [a3 5 (by omega), h3 5 (by omega)]
    exact ko.2.1
  · by_cases q : i < 340
    · rw [a3 i q, h3 i q]
      exact ko.2.2.1 i hi
    · rw [a4 i (by omega)]
      exact k.2.2.1 i hi
  · rw [a2 0 (by decide)]
    exact k.2.2.2.1
  · have : b ≠ 1 := by
      intro q
      subst q
      simp [tS] at hs
    rw [a2 b this]
    exact k.2.2.2.2 b i hs
end PUT
