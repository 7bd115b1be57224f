/-! the reference's small functions -/
set_option maxRecDepth 100000
/-- a condition's code, worked off on a stack (its top first) -/
def fV (f : Nat → Int32) (c : Int32) : Int32 := if c = -1 then f 0 else if c = -2 then f 1 else if c = -3 then f 2 else if c = -4 then f 3 else if c = -5 then f 4 else c
noncomputable def evS (cd : Nat → Int32) (f : Nat → Int32) : Nat → Nat → List Int32 → Option (List Int32)
  | 0, _, st => some st
  | m + 1, k, st => if cd k ≤ -10 then (if cd k = -20 then (match st with
      | x :: r => evS cd f m (k + 1) ((1 - x) :: r)
      | [] => none) else (match st with
      | y :: x :: r => evS cd f m (k + 1) (tF_isHolding (cd k) x y :: r)
      | _ => none)) else evS cd f m (k + 1) (fV f (cd k) :: st)
/-- the rules' part of the row holds the rules L; en: where their conditions end -/
def UR (U : Nat → Int32) (L : RLt) (en : Nat → Nat) : Prop := U 1 = nI L.1 ∧ en 0 = 0 ∧ (∀ k, k < L.1 → en k ≤ en (k + 1) ∧ en (k + 1) ≤ 200 ∧ U (106 + 4 * k) = nI (L.2.1 k).1 ∧ U (107 + 4 * k) = nI (L.2.1 k).2.1 ∧ U (108 + 4 * k) = nI (L.2.1 k).2.2 ∧ U (109 + 4 * k) = nI (en (k + 1))) ∧
  ∀ k, k < L.1 → ∀ f : Nat → Int32, (en (k + 1) = en k ∧ L.2.2 k f = true) ∨ ∃ x, evS (fun j => U (138 + j)) f (en (k + 1) - en k) (en k) [] = some [x] ∧ L.2.2 k f = decide (x = 1)
section TRS
variable {h0 h : St} {T : Tn} {z : Int32} {U : Nat → Int32} {ab : Nat}
theorem TR.rdT (k : TR h0 h T z U ab) (i : Nat) {x : Int32} (hx : x = nI i) (hi : i < 106) (h1 : i ≠ 1) (h5 : i ≠ 5) : rd (h 1) 340 x = some (nI (T i)) := by
  rw [rd_l i hx (by omega) (by decide), k.1 i hi h1 h5]
theorem TR.rdU (k : TR h0 h T z U ab) (i : Nat) {x : Int32} (hx : x = nI i) (hi : i < 340) (h1 : i = 1 ∨ 106 ≤ i) : rd (h 1) 340 x = some (U i) := by
  rw [rd_l i hx hi (by decide), k.2.2.1 i h1]
theorem at_n (p w : Nat) {y : Int32} (hy : y = nI w) : tF_at (nI p) y = nI (22 + 5 * p + w) := by
  subst hy
  unfold tF_at
  rw [show (22 : Int32) = nI 22 from rfl, show (5 : Int32) = nI 5 from rfl, pk_mul, nI_add, nI_add]
theorem T_its (k : TR h0 h T z U ab) {p w : Nat} {y : Int32} (hy : y = nI w) (hp : p < 6) (hw : w < 5) : tF_its h (nI p) y = some (nI (T (22 + 5 * p + w))) := by
  unfold tF_its
  rw [at_n p w hy, k.rdT (22 + 5 * p + w) rfl (by omega) (by omega) (by omega), Option.bind_some]
theorem T_kd (k : TR h0 h T z U ab) {p : Nat} (hp : p < 6) : tF_its h (nI p) 0 = some (nI (T (22 + 5 * p))) := T_its k (w := 0) rfl hp (by omega)
theorem T_ha (k : TR h0 h T z U ab) {p : Nat} (hp : p < 6) : tF_its h (nI p) 1 = some (nI (T (23 + 5 * p))) := by
  have := T_its k (w := 1) (y := 1) rfl hp (by omega)
  rw [show 22 + 5 * p + 1 = 23 + 5 * p by omega] at this
  exact this
theorem T_ne (k : TR h0 h T z U ab) {p : Nat} (hp : p < 6) : tF_its h (nI p) 2 = some (nI (T (24 + 5 * p))) := by
  have := T_its k (w := 2) (y := 2) rfl hp (by omega)
  rw [show 22 + 5 * p + 2 = 24 + 5 * p by omega] at this
  exact this
theorem T_co (k : TR h0 h T z U ab) {p : Nat} (hp : p < 6) : tF_its h (nI p) 3 = some (nI (T (25 + 5 * p))) := by
  have := T_its k (w := 3) (y := 3) rfl hp (by omega)
  rw [show 22 + 5 * p + 3 = 25 + 5 * p by omega] at this
  exact this
theorem T_me (k : TR h0 h T z U ab) {p : Nat} (hp : p < 6) : tF_its h (nI p) 4 = some (nI (T (26 + 5 * p))) := by
  have := T_its k (w := 4) (y := 4) rfl hp (by omega)
  rw [show 22 + 5 * p + 4 = 26 + 5 * p by omega] at this
  exact this
theorem T_0 (k : TR h0 h T z U ab) : rd (h 1) 340 0 = some (nI (T 0)) := k.rdT 0 rfl (by decide) (by decide) (by decide)
theorem T_fee (k : TR h0 h T z U ab) : rd (h 1) 340 2 = some (nI (T 2)) := k.rdT 2 rfl (by decide) (by decide) (by decide)
theorem T_rep (k : TR h0 h T z U ab) : rd (h 1) 340 3 = some (nI (T 3)) := k.rdT 3 rfl (by decide) (by decide) (by decide)
theorem T_made (k : TR h0 h T z U ab) : rd (h 1) 340 4 = some (nI (T 4)) := k.rdT 4 rfl (by decide) (by decide) (by decide)
theorem T_wo (k : TR h0 h T z U ab) {p : Nat} (hp : p < 8) : rd (h 1) 340 ((6 : Int32) + nI p) = some (nI (T (6 + p))) := k.rdT (6 + p) (nI_add 6 p) (by omega) (by omega) (by omega)
theorem T_ja (k : TR h0 h T z U ab) {p : Nat} (hp : p < 8) : rd (h 1) 340 ((14 : Int32) + nI p) = some (nI (T (14 + p))) := k.rdT (14 + p) (nI_add 14 p) (by omega) (by omega) (by omega)
theorem TR.wrS (k : TR h0 h T z U ab) (b n i : Nat) {x : Int32} (v : Int32) (hx : x = nI i) (hi : i < n) (hn : n < 2 ^ 31) (hb : tN b i = true) : ∃ h', wr h b n x v = some h' ∧ TR h0 h' T z U ab ∧ h' = up2 h b i v := ⟨_, wr_l i hx hi hn, k.scr v hb, rfl⟩
theorem tw_isWhole (k : TR h0 h T z U ab) (w : WF T) {p : Nat} (hp : p < 6) : tF_isWhole h (nI p) = some (zI (isW T p)) := by
  have h1 := w.ha hp
  have h2 := w.ne hp
  unfold tF_isWhole
  rw [T_ha k hp, Option.bind_some, T_ne k hp, Option.bind_some, ie (by omega) (by omega), sz]
  rfl
theorem abI_eq {p ab : Nat} (hp : p < 6 ∨ p = 9) (ha : ab ≤ 6) : nI p = abI ab ↔ p = ab := by
  unfold abI
  by_cases q : ab < 6
  · rw [if_pos q]
    exact nI_eq (by omega) (by omega)
  · rw [if_neg q]
    constructor
    · intro e
      exfalso
      have h1 := nI_pos' (n := p) (by omega)
      rw [e] at h1
      exact absurd h1 (by decide)
    · intro e
      omega
theorem tw_wholeSet (k : TR h0 h T z U ab) (w : WF T) (ha : ab ≤ 6) : tF_wholeSet h = some (nI (wS T ab (T 0))) := by
  have hn := w.n
  unfold tF_wholeSet
  refine iter_up (fun i => (nI (wS T ab i), nI i)) (T 0) (fun i hi => ?_) ?_
  · dsimp only [un2]
    rw [T_0 k, Option.bind_some, if_neg (nI_ge hi (by omega)), k.2.2.2.1, n0, nI_or, nI_1, nI_bit i (by omega), nI_or, wS_s]
    by_cases e : i = ab
    · rw [if_pos ((abI_eq (Or.inl (by omega)) ha).mpr e), if_neg (fun z => z.1 e)]
    · rw [if_neg (fun z => e ((abI_eq (Or.inl (by omega)) ha).mp z)), tw_isWhole k w (by omega), Option.bind_some]
      show (if zI (isW T i) = 0 then _ else _) = _
      rw [iz]
      by_cases q : isW T i = true
      · rw [if_pos q, if_pos ⟨e, q⟩]
      · rw [if_neg q, if_neg (fun z => q z.2)]
  · dsimp only [un2]
    rw [T_0 k, Option.bind_some, if_pos (nI_le (Nat.le_refl _) (by omega))]
theorem ones_lp : ∀ m, m < 64 → lpN (L := Int32 × Int32) (T := Int32) (un2 fun s1a s1b => if s1b = 0 then some (.inr s1a) else some (.inl ((s1a + (1 : Int32)), (s1b &&& (s1b - (1 : Int32)))))) 8 ((0 : Int32), nI m) = some (nI (pop m)) := by decide +kernel
theorem tw_ones {m : Nat} (hm : m < 64) : tF_ones (nI m) = some (nI (pop m)) := by
  unfold tF_ones
  exact iter_of (ones_lp m hm)
theorem al_n {a b : Nat} (ha : a < 2 ^ 30) (hb : b < 2 ^ 30) : tF_atLeast (nI a - nI b) = nI (a - b) := by
  unfold tF_atLeast
  by_cases h : b ≤ a
  · rw [pk_sub h, if_pos (nI_pos' (by omega))]
  · rw [if_neg]
    · rw [show a - b = 0 by omega]
      rfl
    · intro q
      have := pk_sneg (a := a) (b := b) hb (by omega)
      rw [Int32.lt_iff_toInt_lt] at this
      rw [Int32.le_iff_toInt_le] at q
      omega
theorem al_p {a : Nat} (ha : a < 2 ^ 30) : tF_atLeast (nI a) = nI a := by
  unfold tF_atLeast
  rw [if_pos (nI_pos' (by omega))]
theorem isUnder_n : ∀ a, a < 6 → ∀ b, b < 6 → tF_isUnder (nI a) (nI b) = zI (isOfS a b) := by decide +kernel
/-- a fact, or a number -/
theorem tw_fact (k : TR h0 h T z U ab) (w : WF T) (ha : ab ≤ 6) {p : Nat} (hp : p < T 0) (c : Int32) : tF_fact h c (nI p) = some (fV (fac T ab p) c) := by
  have p6 := w.p6 hp
  have hn := w.n
  have b1 := w.ha p6
  have b2 := w.ne p6
  unfold tF_fact fV
  by_cases c5 : c = -5
  · subst c5
    rfl
  rw [if_neg c5]
  by_cases c4 : c = -4
  · subst c4
    rw [if_pos rfl, tw_wholeSet k w ha, Option.bind_some, tw_ones (wS_64 hn), Option.bind_some]
    rfl
  rw [if_neg c4]
  by_cases c3 : c = -3
  · subst c3
    rw [if_pos rfl, T_co k p6, Option.bind_some]
    rfl
  rw [if_neg c3]
  by_cases c2 : c = -2
  · subst c2
    rw [if_pos rfl, T_ne k p6, Option.bind_some, T_wo k b2, Option.bind_some]
    rfl
  rw [if_neg c2]
  by_cases c1 : c = -1
  · subst c1
    rw [if_pos rfl, T_ha k p6, Option.bind_some, T_wo k b1, Option.bind_some]
    rfl
  rw [if_neg c1, if_neg c1, if_neg c2, if_neg c3, if_neg c4, if_neg c5]
/-- the stack's row holds a stack (its top first) -/
def stk (f : Nat → Int32) : List Int32 → Prop
  | [] => True
  | x :: r => f r.length = x ∧ stk f r
theorem stk_up {f : Nat → Int32} {i : Nat} {v : Int32} : ∀ {r : List Int32}, r.length ≤ i → stk f r → stk (upd f i v) r
  | [], _, _ => trivial
  | x :: r, hl, h => by
    simp only [List.length_cons] at hl
    exact ⟨by rw [pk_un (by omega)]; exact h.1, stk_up (by omega) h.2⟩
theorem up2_row {g : St} {a i : Nat} {v : Int32} : up2 g a i v a = upd (g a) i v := by
  unfold up2
  rw [if_pos rfl]
theorem tw_isSo (k : TR h0 h T z U ab) (w : WF T) (ha : ab ≤ 6) {p : Nat} (hp : p < T 0) {a b : Nat} (hab : a ≤ b) (hb : b ≤ 200) {x : Int32} (hx : (b = a ∧ x = 1) ∨ evS (fun j => U (138 + j)) (fac T ab p) (b - a) a [] = some [x]) : ∃ h', tF_isSo h (nI a) (nI b) (nI p) = some (zI (decide (x = 1)), h') ∧ TR h0 h' T z U ab ∧ ∀ b, b ≠ 6 → h' b = h b := by
  have key : ∀ (m i : Nat) (s : St) (st st' : List Int32), i + m = b → TR h0 s T z U ab → stk (s 6) st → st.length ≤ i → evS (fun j => U (138 + j)) (fac T ab p) m i st = some st' → ∃ s', iter (L := St × Int32 × Int32) (T := St × Int32) (un3 fun s6a s6b s6c =>
      if nI b ≤ s6c then
        some (.inr (s6a, s6b))
      else
        (rd (s6a 1) 340 ((138 : Int32) + s6c)).bind fun x9 =>
        if x9 ≤ (-10 : Int32) then
          if x9 = (-20 : Int32) then
            (rd (s6a 6) 200 (s6b - (1 : Int32))).bind fun x10 =>
            (wr s6a 6 200 (s6b - (1 : Int32)) ((1 : Int32) - x10)).bind fun g11 =>
            some (.inl (g11, s6b, (s6c + (1 : Int32))))
          else
            (rd (s6a 6) 200 ((s6b + (-1 : Int32)) - (1 : Int32))).bind fun x12 =>
            (rd (s6a 6) 200 (s6b + (-1 : Int32))).bind fun x13 =>
            if (tF_isHolding x9 x12 x13) = 0 then
              (wr s6a 6 200 ((s6b + (-1 : Int32)) - (1 : Int32)) (0 : Int32)).bind fun g15 =>
              some (.inl (g15, (s6b + (-1 : Int32)), (s6c + (1 : Int32))))
            else
              (wr s6a 6 200 ((s6b + (-1 : Int32)) - (1 : Int32)) (1 : Int32)).bind fun g16 =>
              some (.inl (g16, (s6b + (-1 : Int32)), (s6c + (1 : Int32))))
        else
          (tF_fact s6a x9 (nI p)).bind fun x19 =>
          (wr s6a 6 200 s6b x19).bind fun g20 =>
          some (.inl (g20, (s6b + (1 : Int32)), (s6c + (1 : Int32))))) (s, nI st.length, nI i) = some (s', nI st'.length) ∧ TR h0 s' T z U ab ∧ stk (s' 6) st' ∧ st'.length ≤ b ∧ ∀ b', b' ≠ 6 → s' b' = s b' := by
    intro m
    induction m with
    | zero =>
      intro i s st st' hi ks hst hl he
      cases he
      refine ⟨s, iter_done ?_, ks, hst, by omega, fun _ _ => rfl⟩
      dsimp only [un3]
      rw [if_pos (nI_le (by omega) (by omega))]
    | succ m ih =>
      intro i s st st' hi ks hst hl he
      have h138 : (138 : Int32) + nI i = nI (138 + i) := nI_add 138 i
      unfold evS at he
      by_cases c1 : U (138 + i) ≤ -10
      · rw [if_pos c1] at he
        by_cases c2 : U (138 + i) = -20
        · rw [if_pos c2] at he
          match st, hst, hl, he with
          | y :: r, hst, hl, he =>
            simp only [List.length_cons] at hl
            obtain ⟨s1, e1, k1, q1⟩ := ks.wrS 6 200 r.length (x := nI (r.length + 1) - 1) (1 - y) (nI_pred _) (by omega) (by decide) rfl
            obtain ⟨s', a1, a2⟩ := ih (i + 1) s1 ((1 - y) :: r) st' (by omega) k1 (by rw [q1, up2_row]; exact ⟨pk_us, stk_up (Nat.le_refl _) hst.2⟩) (by simp only [List.length_cons]; omega) he
            refine ⟨s', ?_, a2.1, a2.2.1, a2.2.2.1, fun b' n => (a2.2.2.2 b' n).trans (by rw [q1]; exact up2_o n)⟩
            rw [iter_step (s' := (s1, nI (r.length + 1), nI (i + 1)))]
            · exact a1
            · dsimp only [un3, List.length_cons]
              rw [if_neg (nI_ge (by omega) (by omega)), ks.rdU (138 + i) h138 (by omega) (by omega), Option.bind_some, if_pos c1, if_pos c2, rd_l r.length (nI_pred _) (by omega) (by decide), Option.bind_some, hst.1, e1, Option.bind_some, nI_1]
        · rw [if_neg c2] at he
          match st, hst, hl, he with
          | y :: x :: r, hst, hl, he =>
            simp only [List.length_cons] at hl
            have e0 : nI (r.length + 1 + 1) + (-1) = nI (r.length + 1) := pk_m1 _
            have hbool : tF_isHolding (U (138 + i)) x y = 0 ∨ tF_isHolding (U (138 + i)) x y = 1 := by
              unfold tF_isHolding
              split <;> (try split) <;> (try split) <;> (try split) <;> (try split) <;> (try split) <;> simp
            obtain ⟨s1, e1, k1, q1⟩ := ks.wrS 6 200 r.length (x := nI (r.length + 1) - 1) (tF_isHolding (U (138 + i)) x y) (nI_pred _) (by omega) (by decide) rfl
            obtain ⟨s', a1, a2⟩ := ih (i + 1) s1 (tF_isHolding (U (138 + i)) x y :: r) st' (by omega) k1 (by rw [q1, up2_row]; exact ⟨pk_us, stk_up (Nat.le_refl _) hst.2.2⟩) (by simp only [List.length_cons]; omega) he
            refine ⟨s', ?_, a2.1, a2.2.1, a2.2.2.1, fun b' n => (a2.2.2.2 b' n).trans (by rw [q1]; exact up2_o n)⟩
            rw [iter_step (s' := (s1, nI (r.length + 1), nI (i + 1)))]
            · exact a1
            · dsimp only [un3, List.length_cons]
              rw [if_neg (nI_ge (by omega) (by omega)), ks.rdU (138 + i) h138 (by omega) (by omega), Option.bind_some, if_pos c1, if_neg c2, e0, rd_l r.length (nI_pred _) (by omega) (by decide), Option.bind_some, rd_n (by omega) (by decide), Option.bind_some, hst.2.1]
              have hy : s 6 (r.length + 1) = y := hst.1
              rw [hy, nI_1]
              rcases hbool with hb0 | hb1
              · rw [hb0] at e1 ⊢
                rw [if_pos rfl, e1, Option.bind_some]
              · rw [hb1] at e1 ⊢
                rw [if_neg (by decide), e1, Option.bind_some]
      · rw [if_neg c1] at he
        obtain ⟨s1, e1, k1, q1⟩ := ks.wrS 6 200 st.length (x := nI st.length) (fV (fac T ab p) (U (138 + i))) rfl (by omega) (by decide) rfl
        obtain ⟨s', a1, a2⟩ := ih (i + 1) s1 (fV (fac T ab p) (U (138 + i)) :: st) st' (by omega) k1 (by rw [q1, up2_row]; exact ⟨pk_us, stk_up (Nat.le_refl _) hst⟩) (by simp only [List.length_cons]; omega) he
        refine ⟨s', ?_, a2.1, a2.2.1, a2.2.2.1, fun b' n => (a2.2.2.2 b' n).trans (by rw [q1]; exact up2_o n)⟩
        rw [iter_step (s' := (s1, nI (st.length + 1), nI (i + 1)))]
        · exact a1
        · dsimp only [un3]
          rw [if_neg (nI_ge (by omega) (by omega)), ks.rdU (138 + i) h138 (by omega) (by omega), Option.bind_some, if_neg c1, tw_fact ks w ha hp, Option.bind_some, e1, Option.bind_some, nI_1, nI_1]
  unfold tF_isSo
  rcases hx with ⟨e, hx1⟩ | hx
  · obtain ⟨s', a1, a2, -, -, a5⟩ := key 0 a h [] [] (by omega) k trivial (by simp) rfl
    refine ⟨s', ?_, a2, a5⟩
    rw [show ((h, (0 : Int32), nI a) : St × Int32 × Int32) = (h, nI ([] : List Int32).length, nI a) from rfl, a1, Option.bind_some]
    rw [hx1]
    rfl
  · obtain ⟨s', a1, a2, a3, a4, a5⟩ := key (b - a) a h [] [x] (by omega) k trivial (by simp) hx
    refine ⟨s', ?_, a2, a5⟩
    rw [show ((h, (0 : Int32), nI a) : St × Int32 × Int32) = (h, nI ([] : List Int32).length, nI a) from rfl, a1, Option.bind_some]
    dsimp only [un2]
    rw [show nI [x].length = nI 1 from rfl, if_neg (by decide : ¬ nI 1 = 0), rd_l (x := 0) 0 rfl (by omega) (by decide), Option.bind_some]
    have e : s' 6 0 = x := a3.1
    rw [e]
    by_cases q : x = 1
    · rw [if_pos q]
      simp [q, zI]
    · rw [if_neg q]
      simp [q, zI]
end TRS
