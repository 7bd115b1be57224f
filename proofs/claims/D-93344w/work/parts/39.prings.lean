/-! rings -/
set_option maxRecDepth 100000
theorem foC_snoc {S : Type} (P : Nat → Bool) (f : Nat → S → S) : ∀ i c s, foC P f (i + 1) c s = if P (c + i) then f (c + i) (foC P f i c s) else foC P f i c s
  | 0, c, s => by
    show (if P c then _ else _) = _
    rw [Nat.add_zero]
    rfl
  | i + 1, c, s => by
    have e : c + (i + 1) = (c + 1) + i := by omega
    rw [e]
    show (if P c then foC P f (i + 1) (c + 1) (f c s) else foC P f (i + 1) (c + 1) s) = _
    by_cases p : P c = true
    · rw [if_pos p, foC_snoc P f i (c + 1) (f c s)]
      have e2 : foC P f (i + 1) c s = foC P f i (c + 1) (f c s) := by
        show (if P c then _ else _) = _
        rw [if_pos p]
      rw [e2]
    · rw [if_neg p, foC_snoc P f i (c + 1) s]
      have e2 : foC P f (i + 1) c s = foC P f i (c + 1) s := by
        show (if P c then _ else _) = _
        rw [if_neg p]
      rw [e2]
/-- one can be next in a ring: p needs what q has, they meet -/
def lnk (T : Tn) (p q : Nat) : Bool := decide (T (23 + 5 * q) = T (24 + 5 * p)) && mee T p q
abbrev RAcc : Type := Nat × Option (List Nat)
def dR (a : RAcc) (r : List Nat) : RAcc := (a.1 + 1, if a.1 = 0 then some r else a.2)
/-- rings: first f, last p, those used; d more -/
def rgA (T : Tn) (f : Nat) : Nat → List Nat → Nat → Nat → RAcc → RAcc
  | 0, pre, p, _, a => if lnk T p f then dR a pre else a
  | d + 1, pre, p, us, a => foC (fun q => !us.testBit q && (lnk T p q && !isW T q)) (fun q a => rgA T f d (pre ++ [q]) q (us ||| 2 ^ q) a) (T 0 - (f + 1)) (f + 1) a
theorem rgA_le (T : Tn) (w : WF T) (f : Nat) : ∀ d pre p us a, (rgA T f d pre p us a).1 ≤ a.1 + 6 ^ d
  | 0, pre, p, us, a => by
    unfold rgA dR
    split
    · simp
    · omega
  | d + 1, pre, p, us, a => by
    have hn := w.n
    have key : ∀ k c (b : RAcc), (foC (fun q => !us.testBit q && (lnk T p q && !isW T q)) (fun q a => rgA T f d (pre ++ [q]) q (us ||| 2 ^ q) a) k c b).1 ≤ b.1 + k * 6 ^ d := by
      intro k
      induction k with
      | zero => intro c b; show b.1 ≤ _; omega
      | succ k ih =>
        intro c b
        unfold foC
        have e : (k + 1) * 6 ^ d = k * 6 ^ d + 6 ^ d := Nat.succ_mul _ _
        split
        · have h1 := ih (c + 1) (rgA T f d (pre ++ [c]) c (us ||| 2 ^ c) b)
          have h2 := rgA_le T w f d (pre ++ [c]) c (us ||| 2 ^ c) b
          omega
        · exact Nat.le_trans (ih (c + 1) b) (Nat.add_le_add_left (Nat.mul_le_mul_right _ (by omega)) _)
    have h1 := key (T 0 - (f + 1)) (f + 1) a
    have h2 : (T 0 - (f + 1)) * 6 ^ d ≤ 6 * 6 ^ d := Nat.mul_le_mul_right _ (by omega)
    have e : 6 ^ (d + 1) = 6 ^ d * 6 := Nat.pow_succ _ _
    unfold rgA
    omega
section PRG
variable {g0 h0 : St} {z : Int32} {E : EE} {L : RLt} {U : Nat → Int32} {en : Nat → Nat} {T : Tn}
def accR (g : St) (i0 b : Nat) (a : RAcc) : Prop := g 0 i0 = nI a.1 ∧ (a.1 ≠ 0 → ∃ r, a.2 = some r ∧ rowIs (g b) r)
theorem us_lt : ∀ m, m < 64 → ∀ q, q < 6 → m ||| 2 ^ q < 64 := by decide
theorem kw_rings {g : St} (w : WF T) : ∀ (d rem : Nat) (pre : List Nat) (f p us : Nat) (a : RAcc) (g : St), rem < d → pre.length + rem ≤ 6 → 0 < pre.length → f < 6 → p < 6 → us < 64 → a.1 + 6 ^ rem < 2 ^ 30 → KR g0 g T z 6 → rowIs (g 23) pre → pre[0]? = some f → pre[pre.length - 1]? = some p → accR g 24 24 a → ∃ g', kF_ringsFrom E d g (nI pre.length) (nI (pre.length + rem)) (nI us) = some g' ∧ KR g0 g' T z 6 ∧ rowIs (g' 23) pre ∧ accR g' 24 24 (rgA T f rem pre p us a) := by
  intro d
  induction d with
  | zero => intro rem pre f p us a g hd; omega
  | succ d ih =>
    intro rem pre f p us a g hd hl hl0 hf hp hus hcnt k hrow hpf hpp hacc
    have hn := w.n
    have r0 : g 23 0 = nI f := hrow 0 f hpf
    have rp : g 23 (pre.length - 1) = nI p := hrow _ p hpp
    have b1 := w.ha hf
    have b2 := w.ne hp
    rw [kF_ringsFrom]
    dsimp only
    rw [nI_m1 hl0, rd_n (by omega) (by decide), Option.bind_some, rp, ie (by omega) (by omega)]
    cases rem with
    | zero =>
      rw [if_pos (by omega), rd_l (x := 0) 0 rfl (by omega) (by decide), Option.bind_some, r0, K_ha k hf, Option.bind_some, K_ne k hp, Option.bind_some, ie (by omega) (by omega), Option.bind_some, kw_meet k w hp hf, Option.bind_some, iz]
      unfold rgA lnk
      by_cases e1 : T (23 + 5 * f) = T (24 + 5 * p)
      · rw [if_pos e1]
        cases e2 : mee T p f with
        | false =>
          rw [if_neg (by decide), if_neg (by simp)]
          exact ⟨g, rfl, k, hrow, hacc⟩
        | true =>
          rw [if_pos rfl, hacc.1, ie0 (by omega), Nat.add_zero, if_pos (show (decide (T (23 + 5 * f) = T (24 + 5 * p)) && true) = true by simp [e1])]
          have pf1 : ∀ (s : St) (v : Int32), pf s 0 24 v = some (up2 s 0 24 v) := fun _ _ => rfl
          have cpy6 : cpy g 23 6 24 6 0 0 (nI pre.length) = some (upA g 24 (va_cpy (g 23) (g 24) 0 0 pre.length)) := by
            unfold cpy
            rw [nI_clamp (by omega), if_neg]
            · rfl
            · intro q
              have z0 : (0 : Int32).toNatClampNeg = 0 := rfl
              rcases q with q | q | q | q | q
              · exact absurd q (by decide)
              · exact absurd q (by decide)
              · exact nI_pos (by omega) q
              · omega
              · omega
          by_cases e3 : a.1 = 0
          · rw [if_pos e3, cpy6, Option.bind_some, Option.bind_some, pf1, Option.bind_some]
            refine ⟨_, rfl, (k.scrA (b := 24) _ (fun i => rfl)).scr (b := 0) (i := 24) _ rfl, ?_, ?_, fun _ => ⟨pre, ?_, ?_⟩⟩
            · rw [up2_o (by decide), upA_n (by decide)]
              exact hrow
            · rw [up2_s, upA_n (by decide), hacc.1, nI_1]
              rfl
            · show (if a.1 = 0 then some pre else a.2) = some pre
              rw [if_pos e3]
            · rw [up2_o (by decide), upA_s]
              intro i v hv
              have hi : i < pre.length := by
                by_cases q : i < pre.length
                · exact q
                · rw [List.getElem?_eq_none (by omega)] at hv
                  cases hv
              rw [pk_cpy_in (by omega) (by omega), show 0 + (i - 0) = i by omega]
              exact hrow i v hv
          · rw [if_neg e3, Option.bind_some, pf1, Option.bind_some]
            obtain ⟨r, hr1, hr2⟩ := hacc.2 e3
            refine ⟨_, rfl, k.scr (b := 0) (i := 24) _ rfl, ?_, ?_, fun _ => ⟨r, ?_, ?_⟩⟩
            · rw [up2_o (by decide)]
              exact hrow
            · rw [up2_s, hacc.1, nI_1]
              rfl
            · show (if a.1 = 0 then some pre else a.2) = some r
              rw [if_neg e3]
              exact hr1
            · rw [up2_o (by decide)]
              exact hr2
      · rw [if_neg e1, if_neg (by simp [e1])]
        exact ⟨g, rfl, k, hrow, hacc⟩
    | succ rem =>
      rw [if_neg (by omega), rd_l (x := 0) 0 rfl (by omega) (by decide), Option.bind_some, r0, nI_1 f]
      have p6 : 6 ^ (rem + 1) = 6 ^ rem * 6 := Nat.pow_succ _ _
      obtain ⟨t, e1, e2⟩ := iter_inv (body := un2 fun s17a s17b =>
      if (s17a 40 0) ≤ s17b then
        some (.inr s17a)
      else
        if ((nI us >>> (s17b &&& 31)) &&& (1 : Int32)) = (1 : Int32) then
          some (.inl (s17a, (s17b + (1 : Int32))))
        else
          (rd (s17a 46) 6 s17b).bind fun x20 =>
          (rd (s17a 47) 6 (nI p)).bind fun x21 =>
          if x20 = x21 then
            (kF_meet s17a (nI p) s17b).bind fun x22 =>
            if x22 = 0 then
              some (.inl (s17a, (s17b + (1 : Int32))))
            else
              (kF_X3_isWhole s17a s17b).bind fun x24 =>
              if x24 = 0 then
                (wr s17a 23 6 (nI pre.length) s17b).bind fun g26 =>
                (kF_ringsFrom E d g26 (nI pre.length + (1 : Int32)) (nI (pre.length + (rem + 1))) (nI us ||| ((1 : Int32) <<< (s17b &&& 31)))).bind fun g27 =>
                some (.inl (g27, (s17b + (1 : Int32))))
              else
                some (.inl (s17a, (s17b + (1 : Int32))))
          else
            some (.inl (s17a, (s17b + (1 : Int32))))) (fun i s => ∃ g', s = (g', nI (f + 1 + i)) ∧ KR g0 g' T z 6 ∧ rowIs (g' 23) pre ∧ accR g' 24 24 (foC (fun q => !us.testBit q && (lnk T p q && !isW T q)) (fun q a => rgA T f rem (pre ++ [q]) q (us ||| 2 ^ q) a) i (f + 1) a) ∧ (foC (fun q => !us.testBit q && (lnk T p q && !isW T q)) (fun q a => rgA T f rem (pre ++ [q]) q (us ||| 2 ^ q) a) i (f + 1) a).1 ≤ a.1 + i * 6 ^ rem) (fun t => KR g0 t T z 6 ∧ rowIs (t 23) pre ∧ accR t 24 24 (foC (fun q => !us.testBit q && (lnk T p q && !isW T q)) (fun q a => rgA T f rem (pre ++ [q]) q (us ||| 2 ^ q) a) (T 0 - (f + 1)) (f + 1) a)) (T 0 - (f + 1))
        (by
          rintro i hi s ⟨g1, rfl, k1, w1, ac1, le1⟩
          have q6 : f + 1 + i < 6 := by omega
          have bq := w.ha q6
          have hi6 : (i + 1) * 6 ^ rem = i * 6 ^ rem + 6 ^ rem := Nat.succ_mul _ _
          have hle6 : (i + 1) * 6 ^ rem ≤ 6 * 6 ^ rem := Nat.mul_le_mul_right _ (by omega)
          rw [foC_snoc]
          dsimp only [un2]
          have hbit := bit_n us hus _ q6
          have hpos : 0 < 6 ^ rem := Nat.pow_pos (by decide)
          rw [if_neg (show ¬ g1 40 0 ≤ nI (f + 1 + i) by rw [K_0 k1]; exact nI_ge (by omega) (by omega))]
          cases hu : us.testBit (f + 1 + i) with
          | true =>
            rw [if_pos (show nI us >>> (nI (f + 1 + i) &&& 31) &&& 1 = 1 by rw [hbit, hu]; rfl), nI_1]
            refine ⟨_, rfl, g1, by rw [Nat.add_assoc], k1, w1, ?_⟩
            rw [if_neg (by simp)]
            exact ⟨ac1, by omega⟩
          | false =>
            rw [if_neg (show ¬ nI us >>> (nI (f + 1 + i) &&& 31) &&& 1 = 1 by rw [hbit, hu]; decide), K_ha k1 q6, Option.bind_some, K_ne k1 hp, Option.bind_some, ie (by omega) (by omega), kw_meet k1 w hp q6, Option.bind_some, iz, kw_isWhole k1 w q6, Option.bind_some, iz, nI_1]
            by_cases x1 : T (23 + 5 * (f + 1 + i)) = T (24 + 5 * p)
            · rw [if_pos x1]
              cases x2 : mee T p (f + 1 + i) with
              | false =>
                rw [if_neg (by decide)]
                refine ⟨_, rfl, g1, by rw [Nat.add_assoc], k1, w1, ?_⟩
                rw [if_neg (by simp [lnk, x2])]
                exact ⟨ac1, by omega⟩
              | true =>
                rw [if_pos rfl]
                cases x3 : isW T (f + 1 + i) with
                | true =>
                  rw [if_pos rfl]
                  refine ⟨_, rfl, g1, by rw [Nat.add_assoc], k1, w1, ?_⟩
                  rw [if_neg (by simp)]
                  exact ⟨ac1, by omega⟩
                | false =>
                  rw [if_neg (by decide)]
                  obtain ⟨g2, c1, c2, c3⟩ := k1.wrK 23 6 pre.length (x := nI pre.length) (nI (f + 1 + i)) rfl (by omega) (by decide) rfl
                  have rw2 : rowIs (g2 23) (pre ++ [f + 1 + i]) := by
                    rw [c3, up2_row]
                    exact rowIs_snoc w1 _
                  generalize hA : foC (fun q => !us.testBit q && (lnk T p q && !isW T q)) (fun q a => rgA T f rem (pre ++ [q]) q (us ||| 2 ^ q) a) i (f + 1) a = A at ac1 le1
                  have ac2 : accR g2 24 24 A := by
                    refine ⟨by rw [c3, up2_o (by decide)]; exact ac1.1, fun hne => ?_⟩
                    obtain ⟨r, y1, y2⟩ := ac1.2 hne
                    exact ⟨r, y1, by rw [c3, up2_o (by decide)]; exact y2⟩
                  have el : nI pre.length + 1 = nI (pre ++ [f + 1 + i]).length := by rw [nI_1]; simp
                  have el2 : nI (pre.length + (rem + 1)) = nI ((pre ++ [f + 1 + i]).length + rem) := by congr 1; simp; omega
                  obtain ⟨g3, d1, d2, d3, d4⟩ := ih rem (pre ++ [f + 1 + i]) f (f + 1 + i) (us ||| 2 ^ (f + 1 + i)) A g2 (by omega) (by simp; omega) (by simp) hf q6 (us_lt us hus _ q6) (by omega) c2 rw2 (by rw [List.getElem?_append_left hl0]; exact hpf) (by simp) ac2
                  rw [c1, Option.bind_some, nI_bit _ (by omega), nI_or, el, el2, d1, Option.bind_some]
                  have hle := rgA_le T w f rem (pre ++ [f + 1 + i]) (f + 1 + i) (us ||| 2 ^ (f + 1 + i)) A
                  refine ⟨_, rfl, g3, by rw [Nat.add_assoc], d2, rowIs_pre d3, ?_⟩
                  rw [if_pos (by simp [lnk, x1, x2])]
                  exact ⟨d4, by omega⟩
            · rw [if_neg x1]
              refine ⟨_, rfl, g1, by rw [Nat.add_assoc], k1, w1, ?_⟩
              rw [if_neg (by simp [lnk, x1])]
              exact ⟨ac1, by omega⟩)
        (by
          rintro s ⟨g1, rfl, k1, w1, ac1, le1⟩
          refine ⟨g1, ?_, k1, w1, ac1⟩
          dsimp only [un2]
          rw [if_pos (show g1 40 0 ≤ nI (f + 1 + (T 0 - (f + 1))) by rw [K_0 k1]; exact nI_le (by omega) (by omega))]) (T 0 - (f + 1)) 0 (g, nI (f + 1)) (by omega) ⟨g, rfl, k, hrow, hacc, by show a.1 ≤ _; omega⟩
      exact ⟨t, e1, e2.1, e2.2.1, e2.2.2⟩
end PRG
