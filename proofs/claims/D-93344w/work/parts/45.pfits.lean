/-! which laws fit the reports -/
set_option maxRecDepth 100000
/-- report r is as the law says, or left out -/
def ftR (T : Tn) (a : Int32) (law r : Nat) : Bool := decide (nI r = a) || decide (law / 51 * (T (53 + 3 * r) - T (52 + 3 * r)) + law % 51 = T (54 + 3 * r))
def ft (T : Tn) (a : Int32) (law : Nat) : Bool := decide (∀ r, r < T 3 → ftR T a law r = true)
theorem cnt_snoc (P : Nat → Bool) : ∀ k c, cnt P (k + 1) c = cnt P k c + (if P (c + k) then 1 else 0)
  | 0, c => by
    show (if P c then 1 else 0) + 0 = 0 + _
    rw [Nat.add_zero, Nat.zero_add, Nat.add_zero]
  | k + 1, c => by
    show (if P c then 1 else 0) + cnt P (k + 1) (c + 1) = ((if P c then 1 else 0) + cnt P k (c + 1)) + _
    rw [cnt_snoc P k (c + 1), show c + 1 + k = c + (k + 1) by omega, Nat.add_assoc]
theorem fi_snoc (Q : Nat → Bool) : ∀ m k, fi Q (m + 1) k = (match fi Q m k with | some j => some j | none => if Q (k + m) = true then some (k + m) else none)
  | 0, k => by
    unfold fi
    rw [Nat.add_zero]
    rfl
  | m + 1, k => by
    have ih := fi_snoc Q m (k + 1)
    have e : k + (m + 1) = k + 1 + m := by omega
    rw [e]
    show (if Q k = true then some k else fi Q (m + 1) (k + 1)) = (match (if Q k = true then some k else fi Q m (k + 1)) with | some j => some j | none => _)
    by_cases q : Q k = true
    · rw [if_pos q, if_pos q]
    · rw [if_neg q, if_neg q]
      exact ih
section FIT
variable {E : EE} {L : RLt} {U : Nat → Int32} {en : Nat → Nat} {g0 h0 : St} {z : Int32} {T : Tn}
theorem K_r0 {g : St} (h : KR g0 g T z 6) {r : Nat} (hr : r < 6) : rd (g 52) 6 (nI r) = some (nI (T (52 + 3 * r))) := h.rdK _ (by omega) (by omega) (by omega) (km_r0 r hr) hr (by decide)
theorem K_r1 {g : St} (h : KR g0 g T z 6) {r : Nat} (hr : r < 6) : rd (g 53) 6 (nI r) = some (nI (T (53 + 3 * r))) := h.rdK _ (by omega) (by omega) (by omega) (km_r1 r hr) hr (by decide)
theorem K_r2 {g : St} (h : KR g0 g T z 6) {r : Nat} (hr : r < 6) : rd (g 54) 6 (nI r) = some (nI (T (54 + 3 * r))) := h.rdK _ (by omega) (by omega) (by omega) (km_r2 r hr) hr (by decide)
theorem kw_isSo {g : St} (k : KR g0 g T z 6) (w : WF T) {r t f : Nat} (hr : r < 6) (ht : t ≤ 3) (hf : f ≤ 50) : kF_isSo g (nI r) (nI t) (nI f) = some (zI (decide (t * (T (53 + 3 * r) - T (52 + 3 * r)) + f = T (54 + 3 * r)))) := by
  obtain ⟨w1, w2, w3⟩ := w.2.2.2.2.2.2.2.1 r hr
  have hm : t * (T (53 + 3 * r) - T (52 + 3 * r)) ≤ 3 * 99 := Nat.mul_le_mul ht (by omega)
  unfold kF_isSo
  rw [K_r1 k hr, Option.bind_some, K_r0 k hr, Option.bind_some, K_r2 k hr, Option.bind_some, sub_n (by omega) (by omega), pk_mul, nI_add, ie (by omega) (by omega), sz]
/-- count and first, the laws from 204 - i on -/
theorem kw_fits {g : St} (k : KR g0 g T z 6) (w : WF T) (a : Int32) : ∃ g', kF_fitsBut g a = some (nI (cnt (ft T a) 204 0), g') ∧ KR g0 g' T z 6 ∧ ∀ l, fi (ft T a) 204 0 = some l → g' 0 26 = nI l := by
  have h3 : T 3 ≤ 6 := w.2.2.1
  have pf1 : ∀ (s : St) (v : Int32), pf s 0 26 v = some (up2 s 0 26 v) := fun _ _ => rfl
  unfold kF_fitsBut
  -- one law
  have inner : ∀ (g1 : St) (n law : Nat), KR g0 g1 T z 6 → law < 204 → ∃ g2, iter (L := Int32) (T := ((St × Int32 × Int32) ⊕ (Int32 × St))) (fun s4 =>
        if (g1 40 2) ≤ s4 then
          (pf g1 0 26 (nI law)).bind fun g6 =>
          some (.inr (.inl (g6, (nI n + (1 : Int32)), (nI law + (-1 : Int32)))))
        else
          if s4 = a then
            some (.inl (s4 + (1 : Int32)))
          else
            (dv (nI law) (51 : Int32)).bind fun x8 =>
            (rm (nI law) (51 : Int32)).bind fun x9 =>
            (kF_isSo g1 s4 x8 x9).bind fun x10 =>
            if x10 = 0 then
              some (.inr (.inl (g1, nI n, (nI law + (-1 : Int32)))))
            else
              some (.inl (s4 + (1 : Int32)))) (0 : Int32) = some (.inl (g2, nI (n + (if ft T a law then 1 else 0)), nI law + (-1 : Int32))) ∧ KR g0 g2 T z 6 ∧ g2 = (if ft T a law then up2 g1 0 26 (nI law) else g1) := by
    intro g1 n law k1 hlaw
    obtain ⟨t, e1, e2⟩ := iter_inx (body := fun s4 =>
        if (g1 40 2) ≤ s4 then
          (pf g1 0 26 (nI law)).bind fun g6 =>
          some (.inr (.inl (g6, (nI n + (1 : Int32)), (nI law + (-1 : Int32)))))
        else
          if s4 = a then
            some (.inl (s4 + (1 : Int32)))
          else
            (dv (nI law) (51 : Int32)).bind fun x8 =>
            (rm (nI law) (51 : Int32)).bind fun x9 =>
            (kF_isSo g1 s4 x8 x9).bind fun x10 =>
            if x10 = 0 then
              some (.inr (.inl (g1, nI n, (nI law + (-1 : Int32)))))
            else
              some (.inl (s4 + (1 : Int32)))) (fun i s => s = nI i ∧ ∀ r, r < i → ftR T a law r = true) (fun t => t = (.inl ((if ft T a law then up2 g1 0 26 (nI law) else g1), nI (n + (if ft T a law then 1 else 0)), nI law + (-1 : Int32)) : (St × Int32 × Int32) ⊕ (Int32 × St))) (T 3)
      (by
        rintro i hi s ⟨rfl, lo⟩
        have i6 : i < 6 := by omega
        rw [if_neg (show ¬ g1 40 2 ≤ nI i by rw [K_rep k1]; exact nI_ge hi (by omega))]
        by_cases ea : nI i = a
        · left
          refine ⟨nI (i + 1), by rw [if_pos ea, nI_1], rfl, fun r hr => ?_⟩
          by_cases er : r = i
          · subst er
            unfold ftR
            simp [ea]
          · exact lo r (by omega)
        · rw [if_neg ea, dv51 (by omega), Option.bind_some, rm51 (by omega), Option.bind_some, kw_isSo k1 w i6 (by omega) (by omega), Option.bind_some, iz]
          by_cases es : law / 51 * (T (53 + 3 * i) - T (52 + 3 * i)) + law % 51 = T (54 + 3 * i)
          · left
            refine ⟨nI (i + 1), by rw [if_pos (by simp [es]), nI_1], rfl, fun r hr => ?_⟩
            by_cases er : r = i
            · subst er
              unfold ftR
              simp [es]
            · exact lo r (by omega)
          · right
            have hf : ft T a law = false := by
              unfold ft
              rw [decide_eq_false_iff_not]
              intro q
              have := q i hi
              unfold ftR at this
              simp [ea, es] at this
            refine ⟨_, by rw [if_neg (by simp [es])], ?_⟩
            rw [hf]
            rfl)
      (by
        rintro s ⟨rfl, lo⟩
        have hf : ft T a law = true := by
          unfold ft
          rw [decide_eq_true_iff]
          exact lo
        refine ⟨_, by rw [if_pos (show g1 40 2 ≤ nI (T 3) by rw [K_rep k1]; exact nI_le (Nat.le_refl _) (by omega)), pf1, Option.bind_some], ?_⟩
        rw [hf, nI_1]
        rfl) (T 3) 0 (0 : Int32) (by omega) ⟨rfl, fun r hr => by omega⟩
    refine ⟨if ft T a law then up2 g1 0 26 (nI law) else g1, by rw [e1, e2], ?_, rfl⟩
    split
    · exact k1.scr (b := 0) (i := 26) _ rfl
    · exact k1
  obtain ⟨t, e1, e2⟩ := iter_inv (body := un3 fun s1a s1b s1c =>
    if s1c < 0 then
      some (.inr (s1b, s1a))
    else
      iter (L := Int32) (T := ((St × Int32 × Int32) ⊕ (Int32 × St))) (fun s4 =>
        if (s1a 40 2) ≤ s4 then
          (pf s1a 0 26 s1c).bind fun g6 =>
          some (.inr (.inl (g6, (s1b + (1 : Int32)), (s1c + (-1 : Int32)))))
        else
          if s4 = a then
            some (.inl (s4 + (1 : Int32)))
          else
            (dv s1c (51 : Int32)).bind fun x8 =>
            (rm s1c (51 : Int32)).bind fun x9 =>
            (kF_isSo s1a s4 x8 x9).bind fun x10 =>
            if x10 = 0 then
              some (.inr (.inl (s1a, s1b, (s1c + (-1 : Int32)))))
            else
              some (.inl (s4 + (1 : Int32)))) (0 : Int32)) (fun i s => ∃ g', s = (g', nI (cnt (ft T a) i (204 - i)), (if i < 204 then nI (203 - i) else -1)) ∧ KR g0 g' T z 6 ∧ ∀ l, fi (ft T a) i (204 - i) = some l → g' 0 26 = nI l) (fun t => ∃ g', t = (nI (cnt (ft T a) 204 0), g') ∧ KR g0 g' T z 6 ∧ ∀ l, fi (ft T a) 204 0 = some l → g' 0 26 = nI l) 204
    (by
      rintro i hi s ⟨g1, rfl, k1, hl⟩
      obtain ⟨g2, a1, a2, a3⟩ := inner g1 (cnt (ft T a) i (204 - i)) (203 - i) k1 (by omega)
      dsimp only [un3]
      rw [if_pos hi, if_neg (nI_pos (by omega)), a1]
      have ec : cnt (ft T a) (i + 1) (204 - (i + 1)) = cnt (ft T a) i (204 - i) + (if ft T a (203 - i) then 1 else 0) := by
        have e : 204 - (i + 1) = 203 - i := by omega
        have e2 : 203 - i + 1 = 204 - i := by omega
        show (if ft T a (204 - (i + 1)) then 1 else 0) + cnt (ft T a) i (204 - (i + 1) + 1) = _
        rw [e, e2, Nat.add_comm]
      have en : nI (203 - i) + (-1) = (if i + 1 < 204 then nI (203 - (i + 1)) else -1) := by
        by_cases q : i + 1 < 204
        · rw [if_pos q, show 203 - i = (203 - (i + 1)) + 1 by omega]
          exact pk_m1 _
        · rw [if_neg q, show i = 203 by omega]
          rfl
      refine ⟨_, rfl, g2, by rw [ec, en], a2, fun l hfl => ?_⟩
      have hfl : (if ft T a (204 - (i + 1)) = true then some (204 - (i + 1)) else fi (ft T a) i (204 - (i + 1) + 1)) = some l := hfl
      rw [show 204 - (i + 1) = 203 - i by omega, show 203 - i + 1 = 204 - i by omega] at hfl
      cases q : ft T a (203 - i) with
      | true =>
        rw [q, if_pos rfl] at hfl a3
        cases hfl
        rw [a3, up2_s]
      | false =>
        rw [q, if_neg (by decide)] at hfl a3
        rw [a3]
        exact hl l hfl)
    (by
      rintro s ⟨g1, rfl, k1, hl⟩
      exact ⟨_, rfl, g1, rfl, k1, hl⟩) 204 0 (g, (0 : Int32), (203 : Int32)) (by omega) ⟨g, rfl, k, fun l hfl => by cases hfl⟩
  obtain ⟨g', rfl, k', hl⟩ := e2
  exact ⟨g', e1, k', hl⟩
end FIT
