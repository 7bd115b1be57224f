/-! changes made for good, and taken back: the ledger -/
set_option maxRecDepth 100000
theorem tup_comm {T : Tn} {i k a b : Nat} (h : i ≠ k) : tup (tup T i a) k b = tup (tup T k b) i a := by
  funext m
  unfold tup
  by_cases h1 : m = k
  · rw [if_pos h1, if_neg (by omega), if_pos h1]
  · rw [if_neg h1]
    by_cases h2 : m = i
    · rw [if_pos h2, if_pos h2]
    · rw [if_neg h2, if_neg h2, if_neg h1]
/-- the oldest goes -/
def shT (T : Tn) : Tn := fun i => if 70 ≤ i ∧ i < 103 then T (i + 3) else if i = 4 then 11 else T i
def entT (T : Tn) (c old fr : Nat) : Tn := tup (tup (tup (tup (if T 4 = 12 then shT T else T) (70 + 3 * (if T 4 = 12 then shT T else T) 4) c) (72 + 3 * (if T 4 = 12 then shT T else T) 4) old) (71 + 3 * (if T 4 = 12 then shT T else T) 4) fr) 4 ((if T 4 = 12 then shT T else T) 4 + 1)
theorem km_lo : ∀ i, i < 70 → (km i).1 < 55 := by decide
theorem km_43 : ∀ i, i < 70 → i ≠ 1 → i ≠ 4 → i ≠ 5 → km i ≠ (40, 3) := by decide
theorem km_hi : ∀ i, 70 ≤ i → i < 106 → km i = (if (i - 70) % 3 = 0 then 55 else if (i - 70) % 3 = 1 then 57 else 56, (i - 70) / 3) := by
  intro i h1 h2
  unfold km
  rw [if_neg (by omega), if_neg (by omega), if_neg (by omega), if_neg (by omega), if_neg (by omega), if_neg (by omega), if_neg (by omega), if_neg (by omega)]
  split
  · rfl
  · split <;> rfl
theorem cpy_12 (s : St) (b : Nat) : cpy s b 12 b 12 1 0 11 = some (upA s b (va_cpy (s b) (s b) 1 0 11)) := by
  unfold cpy
  rw [if_neg]
  · rfl
  · intro q
    have a1 : (1 : Int32).toNatClampNeg = 1 := rfl
    have a2 : (0 : Int32).toNatClampNeg = 0 := rfl
    have a3 : (11 : Int32).toNatClampNeg = 11 := rfl
    rcases q with q | q | q | q | q
    · exact absurd q (by decide)
    · exact absurd q (by decide)
    · exact absurd q (by decide)
    · omega
    · omega
section PMK
variable {E : EE} {L : RLt} {U : Nat → Int32} {en : Nat → Nat} {g0 h0 : St} {T : Tn} {z : Int32} {g h : St} {ab : Nat}
theorem KR.sh (k : KR g0 g T z ab) : KR g0 (up2 (upA (upA (upA g 55 (va_cpy (g 55) (g 55) 1 0 11)) 56 (va_cpy (g 56) (g 56) 1 0 11)) 57 (va_cpy (g 57) (g 57) 1 0 11)) 40 3 (nI 11)) (shT T) z ab := by
  have row : ∀ b, (b = 55 ∨ b = 56 ∨ b = 57) → ∀ j, up2 (upA (upA (upA g 55 (va_cpy (g 55) (g 55) 1 0 11)) 56 (va_cpy (g 56) (g 56) 1 0 11)) 57 (va_cpy (g 57) (g 57) 1 0 11)) 40 3 (nI 11) b j = va_cpy (g b) (g b) 1 0 11 j := by
    intro b hb j
    rw [up2_n (by omega)]
    rcases hb with e | e | e
    · subst e
      rw [upA_n (by decide), upA_n (by decide), upA_s]
    · subst e
      rw [upA_n (by decide), upA_s]
    · subst e
      rw [upA_s]
  refine ⟨fun i h1 h2 h3 => ?_, ?_, ?_, fun b i hs => ?_⟩
  · by_cases q : i < 70
    · have hb := km_lo i q
      by_cases e : i = 4
      · subst e
        show up2 _ 40 3 (nI 11) 40 3 = nI (shT T 4)
        rw [up2_s]
        rfl
      · rw [up2_n, upA_n (by omega), upA_n (by omega), upA_n (by omega), k.1 i h1 h2 h3]
        · unfold shT
          rw [if_neg (by omega), if_neg e]
        · intro r
          exact km_43 i q h2 e h3 (Prod.ext r.1 r.2)
    · have hk := km_hi i (by omega) h1
      have hk0 := k.1 i h1 h2 h3
      have hk3 : i < 103 → g (km i).1 (1 + ((km i).2 - 0)) = nI (T (i + 3)) := by
        intro r
        have q3 := k.1 (i + 3) (by omega) (by omega) (by omega)
        rw [km_hi (i + 3) (by omega) (by omega)] at q3
        rw [hk]
        dsimp only at q3 ⊢
        rw [show (i + 3 - 70) % 3 = (i - 70) % 3 by omega, show (i + 3 - 70) / 3 = 1 + ((i - 70) / 3 - 0) by omega] at q3
        exact q3
      have hb : (km i).1 = 55 ∨ (km i).1 = 56 ∨ (km i).1 = 57 := by
        rw [hk]
        dsimp only
        split
        · omega
        · split <;> omega
      have hj : (km i).2 = (i - 70) / 3 := by rw [hk]
      rw [row _ hb]
      unfold shT
      by_cases r : i < 103
      · rw [if_pos (show 70 ≤ i ∧ i < 103 from ⟨by omega, r⟩), pk_cpy_in (by omega) (by omega)]
        exact hk3 r
      · rw [if_neg (show ¬ (70 ≤ i ∧ i < 103) by omega), if_neg (show ¬ i = 4 by omega), pk_cpy_out (by omega)]
        exact hk0
  · rw [up2_n (by omega), upA_n (by decide), upA_n (by decide), upA_n (by decide)]
    exact k.2.1
  · rw [up2_n (by omega), upA_n (by decide), upA_n (by decide), upA_n (by decide)]
    exact k.2.2.1
  · have e : ¬ (40 ≤ b ∧ b < 60) := by
      simp [kS] at hs
      omega
    rw [up2_n (by omega), upA_n (by omega), upA_n (by omega), upA_n (by omega)]
    exact k.2.2.2 b i hs
theorem kw_enters (k : KR g0 g T z ab) (h4 : T 4 ≤ 12) (c old fr : Nat) : ∃ g', kF_X3_enters g (nI c) (nI old) (nI fr) = some g' ∧ KR g0 g' (entT T c old fr) z ab := by
  unfold kF_X3_enters
  have p : ∀ (g : St) (b i : Nat) (v : Int32), pf g b i v = some (up2 g b i v) := fun _ _ _ _ => rfl
  have first : ∃ g1, (if (g 40 3) = (12 : Int32) then
      (cpy g 55 12 55 12 (1 : Int32) (0 : Int32) (11 : Int32)).bind fun g7 =>
      (cpy g7 56 12 56 12 (1 : Int32) (0 : Int32) (11 : Int32)).bind fun g8 =>
      (cpy g8 57 12 57 12 (1 : Int32) (0 : Int32) (11 : Int32)).bind fun g9 =>
      (pf g9 40 3 ((g9 40 3) - (1 : Int32))).bind fun g10 =>
      some g10
    else
      some g) = some g1 ∧ KR g0 g1 (if T 4 = 12 then shT T else T) z ab := by
    rw [K_made k, show (12 : Int32) = nI 12 from rfl, ie (by omega) (by omega)]
    by_cases e : T 4 = 12
    · rw [if_pos e, if_pos e, cpy_12, Option.bind_some, cpy_12, Option.bind_some, cpy_12, Option.bind_some, p, Option.bind_some]
      refine ⟨_, rfl, ?_⟩
      have q := k.sh
      have e3 : upA (upA (upA g 55 (va_cpy (g 55) (g 55) 1 0 11)) 56 (va_cpy (upA g 55 (va_cpy (g 55) (g 55) 1 0 11) 56) (upA g 55 (va_cpy (g 55) (g 55) 1 0 11) 56) 1 0 11)) 57 (va_cpy (upA (upA g 55 (va_cpy (g 55) (g 55) 1 0 11)) 56 (va_cpy (upA g 55 (va_cpy (g 55) (g 55) 1 0 11) 56) (upA g 55 (va_cpy (g 55) (g 55) 1 0 11) 56) 1 0 11) 57) (upA (upA g 55 (va_cpy (g 55) (g 55) 1 0 11)) 56 (va_cpy (upA g 55 (va_cpy (g 55) (g 55) 1 0 11) 56) (upA g 55 (va_cpy (g 55) (g 55) 1 0 11) 56) 1 0 11) 57) 1 0 11) 40 3 - 1 = nI 11 := by
        rw [upA_n (by decide), upA_n (by decide), upA_n (by decide), K_made k, e]
        rfl
      rw [e3]
      rw [upA_n (b := 56) (a := 55) (by decide), upA_n (b := 57) (a := 56) (by decide), upA_n (b := 57) (a := 55) (by decide)]
      exact q
    · rw [if_neg e, if_neg e]
      exact ⟨g, rfl, k⟩
  obtain ⟨g1, a1, k1⟩ := first
  rw [a1, Option.bind_some]
  unfold entT
  have hT : (if T 4 = 12 then shT T else T) 4 < 12 := by
    split
    · show 11 < 12
      omega
    · omega
  generalize (if T 4 = 12 then shT T else T) = T1 at k1 hT
  obtain ⟨g2, b1, b2, -⟩ := k1.wrT (70 + 3 * T1 4) c (n := 12) (by omega) (by omega) (by omega) (km_l0 _ hT) hT (by decide)
  obtain ⟨g3, b3, b4, -⟩ := b2.wrT (72 + 3 * T1 4) old (n := 12) (by omega) (by omega) (by omega) (km_l2 _ hT) hT (by decide)
  obtain ⟨g4, b5, b6, -⟩ := b4.wrT (71 + 3 * T1 4) fr (n := 12) (by omega) (by omega) (by omega) (km_l1 _ hT) hT (by decide)
  have m2 : g2 40 3 = nI (T1 4) := by rw [K_made b2, tup_n (by omega)]
  have m3 : g3 40 3 = nI (T1 4) := by rw [K_made b4, tup_n (by omega), tup_n (by omega)]
  have m4 : g4 40 3 = nI (T1 4) := by rw [K_made b6, tup_n (by omega), tup_n (by omega), tup_n (by omega)]
  rw [K_made k1, b1, Option.bind_some, m2, b3, Option.bind_some, m3, b5, Option.bind_some, m4, p, Option.bind_some, nI_1]
  exact ⟨_, rfl, b6.put 4 (T1 4 + 1) (b := 40) (j := 3) (by omega) (by omega) (by omega) rfl⟩
theorem kw_makes (k : KR g0 g T z ab) (w : WF T) (ha : ab ≤ 6) (hE : ER E L T) (hL : LOK L) {c : Nat} (hc : okC L T ab c = true) : ∃ g', kF_makes E g (nI c) = some (nI (cst L T ab c), g') ∧ KR g0 g' (entT (doT L T ab c) c (T (23 + 5 * (c / 10))) (doT L T ab c (23 + 5 * (c / 10)))) z ab := by
  obtain ⟨h1, h2⟩ := okC_in hc
  obtain ⟨c60, cp, p6, cq⟩ := chg_in w h1
  have h4 : doT L T ab c 4 ≤ 12 := by
    rw [do_o w hc (by omega)]
    exact w.2.2.2.1
  unfold kF_makes
  obtain ⟨g1, a1, k1, -⟩ := kw_carry k w ha hE hL hc
  rw [dv10 (by omega), Option.bind_some, K_ha k p6, Option.bind_some, a1, Option.bind_some]
  dsimp only [un2]
  rw [K_ha k1 p6, Option.bind_some]
  obtain ⟨g2, b1, b2⟩ := kw_enters k1 h4 c (T (23 + 5 * (c / 10))) (doT L T ab c (23 + 5 * (c / 10)))
  rw [b1, Option.bind_some]
  exact ⟨g2, rfl, b2⟩
theorem tw_shift (k : TR h0 h T z U ab) : ∃ h', iter (L := St × Int32) (T := St) (un2 fun s23a s23b =>
          if (103 : Int32) ≤ s23b then
            some (.inr s23a)
          else
            (rd (s23a 1) 340 (s23b + (3 : Int32))).bind fun x26 =>
            (wr s23a 1 340 s23b x26).bind fun g27 =>
            some (.inl (g27, (s23b + (1 : Int32))))) (h, (70 : Int32)) = some h' ∧ TR h0 h' (fun m => if 70 ≤ m ∧ m < 103 then T (m + 3) else T m) z U ab ∧ ∀ b, b ≠ 1 → h' b = h b := by
  obtain ⟨t, e1, e2⟩ := iter_inv (body := un2 fun s23a s23b =>
          if (103 : Int32) ≤ s23b then
            some (.inr s23a)
          else
            (rd (s23a 1) 340 (s23b + (3 : Int32))).bind fun x26 =>
            (wr s23a 1 340 s23b x26).bind fun g27 =>
            some (.inl (g27, (s23b + (1 : Int32))))) (fun i s => ∃ h', s = (h', nI (70 + i)) ∧ TR h0 h' (fun m => if 70 ≤ m ∧ m < 70 + i then T (m + 3) else T m) z U ab ∧ ∀ b, b ≠ 1 → h' b = h b) (fun t => TR h0 t (fun m => if 70 ≤ m ∧ m < 103 then T (m + 3) else T m) z U ab ∧ ∀ b, b ≠ 1 → t b = h b) 33
    (by
      rintro i hi s ⟨h1, rfl, k1, f1⟩
      dsimp only [un2]
      have e3 : nI (70 + i) + 3 = nI (73 + i) := by
        rw [show (3 : Int32) = nI 3 from rfl, nI_add]
        congr 1
        omega
      have rdv := k1.rdT (73 + i) e3 (by omega) (by omega) (by omega)
      have v : (if 70 ≤ 73 + i ∧ 73 + i < 70 + i then T (73 + i + 3) else T (73 + i)) = T (73 + i) := if_neg (by omega)
      rw [v] at rdv
      obtain ⟨h2, a1, a2, a3⟩ := k1.wrT (70 + i) (T (73 + i)) (x := nI (70 + i)) rfl (by omega) (by omega) (by omega)
      rw [show (103 : Int32) = nI 103 from rfl, if_neg (nI_ge (by omega) (by omega)), rdv, Option.bind_some, a1, Option.bind_some, nI_1]
      refine ⟨_, rfl, h2, rfl, a2.to ?_, fun b nb => by rw [a3, up2_o nb]; exact f1 b nb⟩
      funext m
      unfold tup
      by_cases q : m = 70 + i
      · rw [if_pos q, if_pos (by omega), q]
        congr 1
        omega
      · rw [if_neg q]
        dsimp only
        by_cases r : 70 ≤ m ∧ m < 70 + i
        · rw [if_pos r, if_pos (by omega)]
        · rw [if_neg r, if_neg (by omega)])
    (by
      rintro s ⟨h1, rfl, k1, f1⟩
      exact ⟨h1, rfl, k1, f1⟩) 33 0 (h, (70 : Int32)) (by omega) ⟨h, rfl, k.to (by funext m; rw [if_neg (by omega)]), fun _ _ => rfl⟩
  exact ⟨t, e1, e2⟩
theorem tw_makes (k : TR h0 h T z U ab) (w : WF T) (ha : ab ≤ 6) (hU : UR U L en) (hL : LOK L) {c : Nat} (hc : okC L T ab c = true) : ∃ h', tF_makes h (nI c) = some h' ∧ TR h0 h' (entT (doT L T ab c) c (T (23 + 5 * (c / 10))) (doT L T ab c (23 + 5 * (c / 10)))) z U ab ∧ h' 0 7 = nI (cst L T ab c) := by
  obtain ⟨h1, h2⟩ := okC_in hc
  obtain ⟨c60, cp, p6, cq⟩ := chg_in w h1
  have h4 : doT L T ab c 4 ≤ 12 := by
    rw [do_o w hc (by omega)]
    exact w.2.2.2.1
  unfold tF_makes
  obtain ⟨s, a1, k1, a3, a4, a5, a6⟩ := tw_does k w ha hU hL hc
  rw [a1, Option.bind_some, T_made k1, Option.bind_some]
  have hq : c % 10 ≠ 9 → doT L T ab c (23 + 5 * (c % 10)) = T (23 + 5 * (c / 10)) := by
    intro q
    unfold doT
    rw [if_neg q, exc_q]
  have first : ∃ s1, (if nI (doT L T ab c 4) = (12 : Int32) then
      Option.bind (α := St) (β := St)
        (iter (L := St × Int32) (T := St) (un2 fun s23a s23b =>
          if (103 : Int32) ≤ s23b then
            some (.inr s23a)
          else
            (rd (s23a 1) 340 (s23b + (3 : Int32))).bind fun x26 =>
            (wr s23a 1 340 s23b x26).bind fun g27 =>
            some (.inl (g27, (s23b + (1 : Int32))))) (s, (70 : Int32)))
        (fun j19 => (rd (j19 1) 340 (4 : Int32)).bind fun x21 =>
        (wr j19 1 340 (4 : Int32) (x21 - (1 : Int32))).bind fun g22 =>
        some g22)
    else
      some s) = some s1 ∧ TR h0 s1 (if doT L T ab c 4 = 12 then shT (doT L T ab c) else doT L T ab c) z U ab ∧ ∀ b, b ≠ 1 → s1 b = s b := by
    rw [show (12 : Int32) = nI 12 from rfl, ie (by omega) (by omega)]
    by_cases e : doT L T ab c 4 = 12
    · rw [if_pos e, if_pos e]
      obtain ⟨s2, b1, b2, b3⟩ := tw_shift k1
      have tm := T_made b2
      have v : (if 70 ≤ 4 ∧ 4 < 103 then doT L T ab c (4 + 3) else doT L T ab c 4) = 12 := by rw [if_neg (by omega), e]
      rw [v] at tm
      obtain ⟨s3, c1, c2, c3⟩ := b2.wrT 4 11 (x := 4) rfl (by omega) (by omega) (by omega)
      rw [b1, Option.bind_some, tm, Option.bind_some, show nI 12 - 1 = nI 11 from rfl, c1, Option.bind_some]
      refine ⟨s3, rfl, c2.to ?_, fun b nb => by rw [c3, up2_o nb]; exact b3 b nb⟩
      funext m
      unfold tup shT
      by_cases q : m = 4
      · rw [if_pos q, if_neg (by omega), if_pos q]
      · rw [if_neg q]
        dsimp only
        by_cases r : 70 ≤ m ∧ m < 103
        · rw [if_pos r, if_pos r]
        · rw [if_neg r, if_neg r, if_neg q]
    · rw [if_neg e, if_neg e]
      exact ⟨s, rfl, k1, fun _ _ => rfl⟩
  obtain ⟨s1, b1, b2, b3⟩ := first
  rw [b1, Option.bind_some]
  unfold entT
  have hT : (if doT L T ab c 4 = 12 then shT (doT L T ab c) else doT L T ab c) 4 < 12 := by
    split
    · show 11 < 12
      omega
    · omega
  have hlo : ∀ i, i < 70 → i ≠ 4 → (if doT L T ab c 4 = 12 then shT (doT L T ab c) else doT L T ab c) i = doT L T ab c i := by
    intro i h1 h2
    split
    · unfold shT
      rw [if_neg (by omega), if_neg h2]
    · rfl
  generalize (if doT L T ab c 4 = 12 then shT (doT L T ab c) else doT L T ab c) = T1 at b2 hT hlo
  have e70 : (70 : Int32) + (3 : Int32) * nI (T1 4) = nI (70 + 3 * T1 4) := by rw [show (3 : Int32) = nI 3 from rfl, pk_mul, show (70 : Int32) = nI 70 from rfl, nI_add]
  have e71 : nI (70 + 3 * T1 4) + 1 = nI (71 + 3 * T1 4) := by rw [nI_1]; congr 1; omega
  have e72 : nI (70 + 3 * T1 4) + 2 = nI (72 + 3 * T1 4) := by rw [show (2 : Int32) = nI 2 from rfl, nI_add]; congr 1; omega
  rw [T_made b2, Option.bind_some, rm10 (by omega), Option.bind_some, e70, e71, e72]
  obtain ⟨s2, c1, c2, c3⟩ := b2.wrT (70 + 3 * T1 4) c (x := nI (70 + 3 * T1 4)) rfl (by omega) (by omega) (by omega)
  have hp := T_ha c2 p6
  rw [tup_n (by omega), hlo _ (by omega) (by omega)] at hp
  rw [c1, Option.bind_some, dv10 (by omega), Option.bind_some, hp, Option.bind_some]
  obtain ⟨s3, d1, d2, d3⟩ := c2.wrT (71 + 3 * T1 4) (doT L T ab c (23 + 5 * (c / 10))) (x := nI (71 + 3 * T1 4)) rfl (by omega) (by omega) (by omega)
  rw [d1, Option.bind_some]
  have fr3 : ∀ b, b ≠ 1 → s3 b = s b := fun b nb => by rw [d3, up2_o nb, c3, up2_o nb, b3 b nb]
  have mid : (if nI (c % 10) = (9 : Int32) then some (s3 0 6) else (tF_its s3 (nI (c % 10)) (1 : Int32)).bind fun x16 => some x16) = some (nI (T (23 + 5 * (c / 10)))) := by
    rw [show (9 : Int32) = nI 9 from rfl, ie (by omega) (by omega)]
    by_cases q : c % 10 = 9
    · rw [if_pos q, fr3 0 (by decide), a3]
    · have q6 : c % 10 < 6 := by omega
      have hq' := T_ha d2 q6
      rw [tup_n (by omega), tup_n (by omega), hlo _ (by omega) (by omega), hq q] at hq'
      rw [if_neg q, hq', Option.bind_some]
  rw [mid, Option.bind_some]
  obtain ⟨s4, f1, f2, f3⟩ := d2.wrT (72 + 3 * T1 4) (T (23 + 5 * (c / 10))) (x := nI (72 + 3 * T1 4)) rfl (by omega) (by omega) (by omega)
  have tm := T_made f2
  rw [tup_n (by omega), tup_n (by omega), tup_n (by omega)] at tm
  obtain ⟨s5, i1, i2, i3⟩ := f2.wrT 4 (T1 4 + 1) (x := 4) rfl (by omega) (by omega) (by omega)
  rw [f1, Option.bind_some, tm, Option.bind_some, nI_1, i1, Option.bind_some]
  refine ⟨s5, rfl, i2.to ?_, ?_⟩
  · rw [tup_comm (i := 71 + 3 * T1 4) (k := 72 + 3 * T1 4) (by omega)]
  · rw [i3, up2_o (by decide), f3, up2_o (by decide), fr3 0 (by decide)]
    exact a4
theorem sh_WF (w : WF T) : WF (shT T) := by
  obtain ⟨w1, w2, w3, w4, w5, w6, w7, w8, w9⟩ := w
  have lo : ∀ i, i < 70 → i ≠ 4 → shT T i = T i := fun i h1 h2 => by
    unfold shT
    rw [if_neg (by omega), if_neg h2]
  refine ⟨?_, ?_, ?_, by show 11 ≤ 12; omega, fun i hi => ?_, fun p hp => ?_, fun p hp => ?_, fun r hr => ?_, fun k hk => ?_⟩
  · rw [lo 0 (by omega) (by omega)]; exact w1
  · rw [lo 2 (by omega) (by omega)]; exact w2
  · rw [lo 3 (by omega) (by omega)]; exact w3
  · rw [lo _ (by omega) (by omega), lo _ (by omega) (by omega)]; exact w5 i hi
  · rw [lo _ (by omega) (by omega), lo _ (by omega) (by omega), lo _ (by omega) (by omega), lo _ (by omega) (by omega), lo _ (by omega) (by omega)]; exact w6 p hp
  · rw [lo 0 (by omega) (by omega)] at hp
    rw [lo _ (by omega) (by omega)]; exact w7 p hp
  · rw [lo _ (by omega) (by omega), lo _ (by omega) (by omega), lo _ (by omega) (by omega)]; exact w8 r hr
  · by_cases q : k < 11
    · have := w9 (k + 1) (by omega)
      unfold shT
      rw [if_pos (by omega), if_pos (by omega), if_pos (by omega)]
      rw [show 70 + 3 * (k + 1) = 70 + 3 * k + 3 by omega, show 71 + 3 * (k + 1) = 71 + 3 * k + 3 by omega, show 72 + 3 * (k + 1) = 72 + 3 * k + 3 by omega] at this
      exact this
    · have := w9 k hk
      unfold shT
      rw [if_neg (by omega), if_neg (by omega), if_neg (by omega), if_neg (by omega), if_neg (by omega), if_neg (by omega)]
      exact this
theorem ent_o {c old fr i : Nat} (h4 : T 4 ≤ 12) (hi : i < 70) (h : i ≠ 4) : entT T c old fr i = T i := by
  unfold entT
  have hlo : (if T 4 = 12 then shT T else T) i = T i := by
    split
    · unfold shT
      rw [if_neg (by omega), if_neg h]
    · rfl
  rw [tup_n h, tup_n (by omega), tup_n (by omega), tup_n (by omega), hlo]
theorem ent_WF (w : WF T) {c old fr : Nat} (hc : c < 60) (hc9 : c % 10 < 6 ∨ c % 10 = 9) (ho : old < 8) (hf : fr < 8) : WF (entT T c old fr) := by
  unfold entT
  have w1 : WF (if T 4 = 12 then shT T else T) := by
    split
    · exact sh_WF w
    · exact w
  have hT : (if T 4 = 12 then shT T else T) 4 < 12 := by
    have := w.2.2.2.1
    split
    · show 11 < 12
      omega
    · omega
  generalize (if T 4 = 12 then shT T else T) = T1 at w1 hT
  exact (((w1.set (i := 70 + 3 * T1 4) (v := c) (by omega)).set (i := 72 + 3 * T1 4) (v := old) (by omega)).set (i := 71 + 3 * T1 4) (v := fr) (by omega)).set (i := 4) (v := T1 4 + 1) (by omega)
/-- a change made for good -/
theorem JT.make (j : JT E L U en g0 h0 T z g h) {c : Nat} (hc : okC L T 6 c = true) {g' h' : St} (k : KR g0 g' (entT (doT L T 6 c) c (T (23 + 5 * (c / 10))) (doT L T 6 c (23 + 5 * (c / 10)))) z 6) (t : TR h0 h' (entT (doT L T 6 c) c (T (23 + 5 * (c / 10))) (doT L T 6 c (23 + 5 * (c / 10)))) z U 6) : JT E L U en g0 h0 (entT (doT L T 6 c) c (T (23 + 5 * (c / 10))) (doT L T 6 c (23 + 5 * (c / 10)))) z g' h' := by
  have w := j.w
  obtain ⟨h1, h2⟩ := okC_in hc
  obtain ⟨c60, cp, p6, cq⟩ := chg_in w h1
  obtain ⟨d1, d2, d3, d4, d5⟩ := can_in h2
  have wd := do_WF w hc
  have h4 : doT L T 6 c 4 ≤ 12 := wd.2.2.2.1
  refine ⟨ent_WF wd c60 (by omega) (w.ha p6) (wd.ha p6), fun i hi => ?_, j.hL, ?_, j.hU, k, t⟩
  · rw [ent_o h4 (by omega) (by omega)]
    have b1 := w.ha p6
    have b2 := w.ne p6
    have hj := j.j9 i hi
    have hne : T (23 + 5 * (c / 10)) ≠ T (24 + 5 * (c / 10)) := by simpa [isW] using d3
    unfold doT
    split
    · next q =>
      obtain ⟨f1, f2, f3⟩ := d4 q
      by_cases e1 : i = T (23 + 5 * (c / 10))
      · subst e1
        rw [trd_j1 b1 hne]
        omega
      · by_cases e2 : i = T (24 + 5 * (c / 10))
        · rw [e2] at hj ⊢
          rw [trd_j2 b1 b2 hne]
          omega
        · rw [trd_o (by omega) (by omega) (by omega) (by omega)]
          exact hj
    · rw [exc_o (by omega) (by omega)]
      exact hj
  · have hE := do_ER w j.hE hc
    refine ⟨hE.1, hE.2.1, fun p hp => ?_⟩
    have hn := wd.n
    rw [ent_o h4 (by omega) (by omega)] at hp
    rw [ent_o h4 (by omega) (by omega)]
    exact hE.2.2 p hp
theorem c10q (p q : Nat) (hq : q < 10) : (10 * p + q) / 10 = p ∧ (10 * p + q) % 10 = q := by omega
theorem pb_make (j : JT E L U en g0 h0 T z g h) (a1 a2 : Int32) : Pb E L U en g0 h0 (kF_make E g a1 a2) (tF_make h a1 a2) := by
  have w := j.w
  have k := j.k
  have t := j.t
  have hn := w.n
  unfold kF_make tF_make tF_isChange
  rw [kw_isPersonX k, tw_isPersonX t, Option.bind_some, Option.bind_some]
  rcases isP_c a1 w.n with q | ⟨p, hp, rfl, q⟩
  · rw [q, if_pos rfl, if_pos rfl, Option.bind_some, Option.bind_some]
    exact Pb.same j rfl rfl
  rw [q, if_neg c10, if_neg c10]
  have p6 := w.p6 hp
  -- a change that is one
  have go : ∀ c2 : Nat, a2 = nI c2 → c2 < 10 → chg T (10 * p + c2) = true → Pb E L U en g0 h0 ((kF_can E g (((10 : Int32) * nI p) + a2)).bind (un2 fun y5a y5b =>
      if y5a = 0 then
        some ((-4 : Int32), y5b)
      else
        (kF_makes E y5b (((10 : Int32) * nI p) + a2)).bind (un2 fun y7a y7b =>
        some (y7a, y7b)))) ((tF_canBe h (((10 : Int32) * nI p) + a2)).bind (un2 fun y3a y3b =>
    if y3a = 0 then
      some ((-4 : Int32), y3b)
    else
      (tF_makes y3b (((10 : Int32) * nI p) + a2)).bind fun g5 =>
      some ((g5 0 7), g5))) := by
    intro c2 e2 h10 hch
    subst e2
    have e : (10 : Int32) * nI p + nI c2 = nI (10 * p + c2) := by rw [show (10 : Int32) = nI 10 from rfl, pk_mul, nI_add]
    rw [e]
    obtain ⟨g1, r1, r2, -⟩ := kw_can k w (by omega) j.hE j.hL hch
    obtain ⟨h1, s1, s2, -⟩ := tw_canBe t w (by omega) j.hU j.hL hch
    rw [r1, s1, Option.bind_some, Option.bind_some]
    dsimp only [un2]
    rw [iz, iz]
    cases qc : can L T 6 (10 * p + c2) with
    | false =>
      rw [if_neg (by decide), if_neg (by decide)]
      exact Pb.to j rfl rfl r2 s2
    | true =>
      have hok : okC L T 6 (10 * p + c2) = true := by
        unfold okC
        rw [hch, qc]
        rfl
      rw [if_pos rfl, if_pos rfl]
      obtain ⟨g2, u1, u2⟩ := kw_makes r2 w (by omega) j.hE j.hL hok
      obtain ⟨h2, v1, v2, v3⟩ := tw_makes s2 w (by omega) j.hU j.hL hok
      rw [u1, v1, Option.bind_some, Option.bind_some, v3]
      exact ⟨_, _, _, _, _, rfl, rfl, j.make hok u2 v2⟩
  by_cases e9 : a2 = 9
  · rw [if_pos e9, if_pos e9]
    have := go 9 e9 (by omega) (by
      unfold chg
      obtain ⟨x1, x2⟩ := c10q p 9 (by omega)
      rw [x1, x2]
      simp [hp])
    exact this
  · rw [if_neg e9, if_neg e9, kw_isPersonX k]
    rcases isP_c a2 w.n with q2 | ⟨r, hr, rfl, q2⟩
    · rw [q2, Option.bind_some, if_pos rfl]
      refine Pb.same (r := -1) j rfl ?_
      rw [tw_isPersonX t, q2, Option.bind_some, if_pos rfl]
      split <;> rfl
    · rw [q2, Option.bind_some, if_neg c10, tw_isPersonX t, q2, Option.bind_some, if_neg c10]
      by_cases e : nI r ≤ nI p
      · rw [if_pos e, if_pos e]
        exact Pb.same j rfl rfl
      · rw [if_neg e, if_neg e]
        have r6 := w.p6 hr
        have hpr : p < r := by
          rw [nI_leI (by omega) (by omega)] at e
          omega
        have := go r rfl (by omega) (by
          unfold chg
          obtain ⟨x1, x2⟩ := c10q p r (by omega)
          rw [x1, x2]
          simp [hp, hr, hpr])
        exact this
end PMK
