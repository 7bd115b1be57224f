/-! where the parser goes to; how deep conditions are; how many objects are made -/
set_option maxRecDepth 100000
theorem pB_some {α β : Type} {o : Option (PRs α)} {k : α × Nat × Nat → Option (PRs β)} {R : PRs β} (h : pB o k = some R) : (∃ p, o = some (.inl p) ∧ R = .inl p) ∨ ∃ r, o = some (.inr r) ∧ k r = some R := by
  unfold pB at h
  cases o with
  | none => cases h
  | some o =>
    cases o with
    | inl p => exact Or.inl ⟨p, rfl, (Option.some.inj h).symm⟩
    | inr r => exact Or.inr ⟨r, rfl, h⟩
/-- objects made on the way from a -/
def cntP {α : Type} (a : Nat) (R : PRs α) : Nat := Sum.elim (fun p => p - a + 1) (fun r => r.2.1 - a) R
section PPO
variable {n : Nat} {tp : Nat → Nat} {a e : Nat}
def pOk (n : Nat) (tp : Nat → Nat) (k d a : Nat) (R : PRs CI) : Prop := Sum.elim (fun p => a ≤ p ∧ p ≤ n) (fun r => a + k ≤ r.2.1 ∧ TK n tp r.2.1 r.2.2 ∧ r.1.2.2.2 ≤ d + (r.2.1 - a)) R
theorem tok_gt (h : TK n tp a e) (q : a < e) : a + 1 ≤ (tok n tp e).1 := Nat.le_trans q (tok_ge h.bd.2)
theorem pF_pos (h : TK n tp a e) : (pF n tp a e = .inl a) ∨ ∃ v, pF n tp a e = .inr (v, tok n tp e) ∧ a < e := by
  unfold pF
  split
  · next q => exact Or.inr ⟨_, rfl, by omega⟩
  · exact Or.inl rfl
theorem pV_pos (h : TK n tp a e) : (pV n tp a e = .inl a) ∨ ∃ v, pV n tp a e = .inr (v, tok n tp e) ∧ a < e ∧ v.1 < 5 := by
  unfold pV
  cases hk : nmK tp a e 9 5 with
  | some k =>
    obtain ⟨h1, h2⟩ := nmK_lt (by omega) hk
    exact Or.inr ⟨_, rfl, h2, (by decide : ∀ k, k < 5 → nI k < 5) k h1⟩
  | none =>
    rcases pF_pos h with h1 | ⟨v, h1, h2⟩
    · exact Or.inl (by show Sum.map _ _ (pF n tp a e) = _; rw [h1]; rfl)
    · exact Or.inr ⟨(-1, nI v, nI v), by show Sum.map _ _ (pF n tp a e) = _; rw [h1]; rfl, h2, show (-1 : Int32) < 5 by decide⟩
theorem isSg_lt {a e : Nat} (h : isSg tp a e = true) : a < e := by
  unfold isSg at h
  rw [Bool.and_eq_true] at h
  have := of_decide_eq_true h.1
  omega
/-- a comparison: its parts -/
theorem pQ_pos (h : TK n tp a e) {R : PRs CI} (hR : pQ n tp a e = R) : (pV n tp a e = .inl a ∧ R = .inl a) ∨ ∃ v1, pV n tp a e = .inr (v1, tok n tp e) ∧ a < e ∧ v1.1 < 5 ∧ ((isSg tp (tok n tp e).1 (tok n tp e).2 = false ∧ R = .inl (tok n tp e).1) ∨ (isSg tp (tok n tp e).1 (tok n tp e).2 = true ∧ ((pV n tp (tok n tp (tok n tp e).2).1 (tok n tp (tok n tp e).2).2 = .inl (tok n tp (tok n tp e).2).1 ∧ R = .inl (tok n tp (tok n tp e).2).1) ∨ ∃ v2, pV n tp (tok n tp (tok n tp e).2).1 (tok n tp (tok n tp e).2).2 = .inr (v2, tok n tp (tok n tp (tok n tp e).2).2) ∧ (tok n tp (tok n tp e).2).1 < (tok n tp (tok n tp e).2).2 ∧ v2.1 < 5 ∧ R = .inr (aski v1 (tp (tok n tp e).1) v2, tok n tp (tok n tp (tok n tp e).2).2)))) := by
  unfold pQ at hR
  rcases pV_pos h with h1 | ⟨v1, h1, h2, h3⟩
  · rw [h1] at hR
    exact Or.inl ⟨h1, hR.symm⟩
  · rw [h1] at hR
    refine Or.inr ⟨v1, h1, h2, h3, ?_⟩
    have hT := TK.tok (tp := tp) h.bd.2
    by_cases q : isSg tp (tok n tp e).1 (tok n tp e).2 = true
    · refine Or.inr ⟨q, ?_⟩
      have hR2 : Sum.map id (fun r2 : (Int32 × Int32 × Int32) × Nat × Nat => (aski v1 (tp (tok n tp e).1) r2.1, r2.2)) (pV n tp (tok n tp (tok n tp e).2).1 (tok n tp (tok n tp e).2).2) = R := by
        rw [← hR]
        exact (if_pos q).symm
      rcases pV_pos (TK.tok (tp := tp) hT.bd.2) with h4 | ⟨v2, h4, h5, h6⟩
      · rw [h4] at hR2
        exact Or.inl ⟨h4, hR2.symm⟩
      · rw [h4] at hR2
        exact Or.inr ⟨v2, h4, h5, h6, hR2.symm⟩
    · refine Or.inl ⟨by simpa using q, ?_⟩
      rw [← hR]
      exact if_neg q
theorem pQ_ok (h : TK n tp a e) : pOk n tp 1 0 a (pQ n tp a e) := by
  have hb := h.bd
  have t1 := tok_ge (tp := tp) hb.2
  have hT1 := TK.tok (tp := tp) hb.2
  have hb1 := hT1.bd
  have t2 := tok_ge (tp := tp) hb1.2
  have hT2 := TK.tok (tp := tp) hb1.2
  have hb2 := hT2.bd
  have t3 := tok_ge (tp := tp) hb2.2
  have hT3 := TK.tok (tp := tp) hb2.2
  have hb3 := hT3.bd
  rcases pQ_pos h rfl with ⟨_, h1⟩ | ⟨v1, _, h2, _, ⟨_, h3⟩ | ⟨h3, ⟨_, h4⟩ | ⟨v2, _, h5, _, h4⟩⟩⟩
  · rw [h1]
    exact ⟨Nat.le_refl _, h.1⟩
  · rw [h3]
    exact ⟨by show a ≤ (tok n tp e).1; omega, hT1.1⟩
  · rw [h4]
    exact ⟨by show a ≤ (tok n tp (tok n tp e).2).1; omega, hT2.1⟩
  · rw [h4]
    have := isSg_lt h3
    exact ⟨by show a + 1 ≤ (tok n tp (tok n tp (tok n tp e).2).2).1; omega, hT3, by show 1 ≤ 0 + ((tok n tp (tok n tp (tok n tp e).2).2).1 - a); omega⟩
theorem pC_pos : ∀ f md op x a e R, TK n tp a e → pC n tp f md op x a e = some R → pOk n tp (if md = 2 ∨ 4 ≤ md then 0 else 1) (if md = 2 ∨ 4 ≤ md then x.2.2.2 else 0) a R
  | 0, md, op, x, a, e, R, hT, h => by cases h
  | f + 1, md, op, x, a, e, R, hT, h => by
    have hb := hT.bd
    have t1 := tok_ge (tp := tp) hb.2
    have hT1 := TK.tok (tp := tp) hb.2
    have hb1 := hT1.bd
    unfold pC at h
    by_cases m0 : md = 0
    · rw [if_pos m0] at h
      subst m0
      show pOk n tp 1 0 a R
      by_cases w : wrd tp a e 15 = true
      · rw [if_pos w] at h
        have hw := wrd_lt (n := n) (by decide) w
        rcases pB_some h with ⟨p, h1, rfl⟩ | ⟨r, h1, h2⟩
        · have := pC_pos f 0 op x _ _ _ hT1 h1
          exact ⟨by have := this.1; show a ≤ p; omega, this.2⟩
        · have := pC_pos f 0 op x _ _ _ hT1 h1
          cases h2
          obtain ⟨k1, k2, k3⟩ := this
          exact ⟨by show a + 1 ≤ r.2.1; omega, k2, by show r.1.2.2.2 + 1 ≤ 0 + (r.2.1 - a); have k3 : r.1.2.2.2 ≤ 0 + (r.2.1 - (tok n tp e).1) := k3; have k1 : (tok n tp e).1 + 1 ≤ r.2.1 := k1; omega⟩
      · rw [if_neg w] at h
        by_cases w2 : op < 3 ∧ wrd tp a e 16 = true
        · rw [if_pos w2] at h
          have hw := wrd_lt (n := n) (by decide) w2.2
          rcases pB_some h with ⟨p, h1, rfl⟩ | ⟨r, h1, h2⟩
          · have := pC_pos f 3 (op + 1) x _ _ _ hT1 h1
            exact ⟨by have := this.1; show a ≤ p; omega, this.2⟩
          · have := pC_pos f 3 (op + 1) x _ _ _ hT1 h1
            obtain ⟨k1, k2, k3⟩ := this
            have k1 : (tok n tp e).1 + 1 ≤ r.2.1 := k1
            have k3 : r.1.2.2.2 ≤ 0 + (r.2.1 - (tok n tp e).1) := k3
            have t2 := tok_ge (tp := tp) k2.bd.2
            have kb := k2.bd
            by_cases w3 : wrd tp r.2.1 r.2.2 17 = true
            · rw [if_pos w3] at h2
              cases h2
              exact ⟨by show a + 1 ≤ (tok n tp r.2.2).1; omega, TK.tok k2.bd.2, by show r.1.2.2.2 ≤ 0 + ((tok n tp r.2.2).1 - a); omega⟩
            · rw [if_neg w3] at h2
              cases h2
              exact ⟨by show a ≤ r.2.1; omega, k2.1⟩
        · rw [if_neg w2] at h
          cases h
          exact pQ_ok hT
    · rw [if_neg m0] at h
      by_cases m1 : md = 1
      · rw [if_pos m1] at h
        subst m1
        show pOk n tp 1 0 a R
        rcases pB_some h with ⟨p, h1, rfl⟩ | ⟨r, h1, h2⟩
        · exact pC_pos f 0 op x _ _ _ hT h1
        · obtain ⟨k1, k2, k3⟩ := pC_pos f 0 op x _ _ _ hT h1
          have k1 : a + 1 ≤ r.2.1 := k1
          have k3 : r.1.2.2.2 ≤ 0 + (r.2.1 - a) := k3
          have k4 := pC_pos f 2 op r.1 _ _ _ k2 h2
          cases R with
          | inl p => exact ⟨by have k5 : r.2.1 ≤ p := k4.1; show a ≤ p; omega, k4.2⟩
          | inr r' =>
            obtain ⟨j1, j2, j3⟩ := k4
            have j1 : r.2.1 + 0 ≤ r'.2.1 := j1
            have j3 : r'.1.2.2.2 ≤ r.1.2.2.2 + (r'.2.1 - r.2.1) := j3
            exact ⟨by show a + 1 ≤ r'.2.1; omega, j2, by show r'.1.2.2.2 ≤ 0 + (r'.2.1 - a); omega⟩
      · rw [if_neg m1] at h
        by_cases m2 : md = 2
        · rw [if_pos m2] at h
          subst m2
          show pOk n tp 0 x.2.2.2 a R
          by_cases w : wrd tp a e 18 = true
          · rw [if_pos w] at h
            have hw := wrd_lt (n := n) (by decide) w
            rcases pB_some h with ⟨p, h1, rfl⟩ | ⟨r, h1, h2⟩
            · have := pC_pos f 0 op x _ _ _ hT1 h1
              exact ⟨by have := this.1; show a ≤ p; omega, this.2⟩
            · obtain ⟨k1, k2, k3⟩ := pC_pos f 0 op x _ _ _ hT1 h1
              have k1 : (tok n tp e).1 + 1 ≤ r.2.1 := k1
              have k3 : r.1.2.2.2 ≤ 0 + (r.2.1 - (tok n tp e).1) := k3
              have k4 := pC_pos f 2 op _ _ _ _ k2 h2
              cases R with
              | inl p => exact ⟨by have k5 : r.2.1 ≤ p := k4.1; show a ≤ p; omega, k4.2⟩
              | inr r' =>
                obtain ⟨j1, j2, j3⟩ := k4
                have j1 : r.2.1 + 0 ≤ r'.2.1 := j1
                have j3 : r'.1.2.2.2 ≤ (max x.2.2.2 r.1.2.2.2 + 1) + (r'.2.1 - r.2.1) := j3
                exact ⟨by show a + 0 ≤ r'.2.1; omega, j2, by show r'.1.2.2.2 ≤ x.2.2.2 + (r'.2.1 - a); omega⟩
          · rw [if_neg w] at h
            cases h
            exact ⟨Nat.le_refl _, hT, by show x.2.2.2 ≤ x.2.2.2 + (a - a); omega⟩
        · rw [if_neg m2] at h
          by_cases m3 : md = 3
          · rw [if_pos m3] at h
            subst m3
            show pOk n tp 1 0 a R
            rcases pB_some h with ⟨p, h1, rfl⟩ | ⟨r, h1, h2⟩
            · exact pC_pos f 1 op x _ _ _ hT h1
            · obtain ⟨k1, k2, k3⟩ := pC_pos f 1 op x _ _ _ hT h1
              have k1 : a + 1 ≤ r.2.1 := k1
              have k3 : r.1.2.2.2 ≤ 0 + (r.2.1 - a) := k3
              have k4 := pC_pos f 4 op r.1 _ _ _ k2 h2
              cases R with
              | inl p => exact ⟨by have k5 : r.2.1 ≤ p := k4.1; show a ≤ p; omega, k4.2⟩
              | inr r' =>
                obtain ⟨j1, j2, j3⟩ := k4
                have j1 : r.2.1 + 0 ≤ r'.2.1 := j1
                have j3 : r'.1.2.2.2 ≤ r.1.2.2.2 + (r'.2.1 - r.2.1) := j3
                exact ⟨by show a + 1 ≤ r'.2.1; omega, j2, by show r'.1.2.2.2 ≤ 0 + (r'.2.1 - a); omega⟩
          · rw [if_neg m3] at h
            have e1 : md = 2 ∨ 4 ≤ md := by omega
            rw [if_pos e1, if_pos e1]
            by_cases w : wrd tp a e 19 = true
            · rw [if_pos w] at h
              have hw := wrd_lt (n := n) (by decide) w
              rcases pB_some h with ⟨p, h1, rfl⟩ | ⟨r, h1, h2⟩
              · have := pC_pos f 1 op x _ _ _ hT1 h1
                exact ⟨by have := this.1; show a ≤ p; omega, this.2⟩
              · obtain ⟨k1, k2, k3⟩ := pC_pos f 1 op x _ _ _ hT1 h1
                have k1 : (tok n tp e).1 + 1 ≤ r.2.1 := k1
                have k3 : r.1.2.2.2 ≤ 0 + (r.2.1 - (tok n tp e).1) := k3
                have k4 := pC_pos f 4 op _ _ _ _ k2 h2
                cases R with
                | inl p => exact ⟨by have k5 : r.2.1 ≤ p := k4.1; show a ≤ p; omega, k4.2⟩
                | inr r' =>
                  obtain ⟨j1, j2, j3⟩ := k4
                  have j1 : r.2.1 + 0 ≤ r'.2.1 := j1
                  have j3 : r'.1.2.2.2 ≤ (max x.2.2.2 r.1.2.2.2 + 1) + (r'.2.1 - r.2.1) := j3
                  exact ⟨by show a + 0 ≤ r'.2.1; omega, j2, by show r'.1.2.2.2 ≤ x.2.2.2 + (r'.2.1 - a); omega⟩
            · rw [if_neg w] at h
              cases h
              exact ⟨Nat.le_refl _, hT, by show x.2.2.2 ≤ x.2.2.2 + (a - a); omega⟩
end PPO
theorem Rep.mono : ∀ {n k b : Nat} {d1 d2 : va_W} {φ : (Nat → Int32) → Bool}, (∀ x ∈ d1, x ∈ d2) → n ≤ k → Rep d1 n b φ → Rep d2 k b φ
  | 0, k, b, d1, d2, φ, _, _, h => h.elim
  | n + 1, 0, b, d1, d2, φ, _, hk, h => by omega
  | n + 1, k + 1, b, d1, d2, φ, hd, hk, h => by
    have hk : n ≤ k := by omega
    rcases h with ⟨b1, ψ, m1, r1, e⟩ | ⟨b1, b2, ψ, χ, m1, r1, r2, e⟩ | ⟨b1, b2, ψ, χ, m1, r1, r2, e⟩ | ⟨b1, b2, f1, n1, f2, n2, sg, m1, m2, m3, e⟩
    · exact Or.inl ⟨b1, ψ, hd _ m1, r1.mono hd hk, e⟩
    · exact Or.inr (Or.inl ⟨b1, b2, ψ, χ, hd _ m1, r1.mono hd hk, r2.mono hd hk, e⟩)
    · exact Or.inr (Or.inr (Or.inl ⟨b1, b2, ψ, χ, hd _ m1, r1.mono hd hk, r2.mono hd hk, e⟩))
    · exact Or.inr (Or.inr (Or.inr ⟨b1, b2, f1, n1, f2, n2, sg, hd _ m1, hd _ m2, hd _ m3, e⟩))
