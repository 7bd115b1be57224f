/-! the reference's searches -/
set_option maxRecDepth 100000
theorem encM_in {c : Nat} (h : c < 60) : encM c = nI c := if_pos h
theorem m1_nle {n : Nat} (h : n ≤ 60) : ¬ nI n ≤ (-1 : Int32) := by
  intro q
  have h1 := nI_toInt (n := n) (by omega)
  rw [Int32.le_iff_toInt_le, h1] at q
  have : (-1 : Int32).toInt = -1 := by decide
  omega
/-- how many rows there can be -/
def cnt (P : Nat → Bool) : Nat → Nat → Nat
  | 0, _ => 0
  | k + 1, c => (if P c then 1 else 0) + cnt P k (c + 1)
theorem cnt_le {P Q : Nat → Bool} (h : ∀ c, P c = true → Q c = true) : ∀ k c, cnt P k c ≤ cnt Q k c
  | 0, _ => Nat.le_refl _
  | k + 1, c => by
    unfold cnt
    have := cnt_le h k (c + 1)
    by_cases p : P c = true
    · rw [if_pos p, if_pos (h c p)]
      omega
    · rw [if_neg p]
      split <;> omega
theorem ctn_len {α : Type} {P : Nat → Bool} {F : Nat → List α} {B : Nat} (h : ∀ c, P c = true → (F c).length ≤ B) : ∀ k c, (ctn P F k c).length ≤ cnt P k c * B
  | 0, _ => by simp [ctn]
  | k + 1, c => by
    unfold ctn cnt
    have ih := ctn_len h k (c + 1)
    by_cases p : P c = true
    · rw [if_pos p, if_pos p, List.length_append, Nat.add_mul, Nat.one_mul]
      have := h c p
      omega
    · rw [if_neg p, if_neg p, Nat.zero_add]
      exact ih
def chN (n c : Nat) : Bool := decide (c / 10 < n) && (c % 10 == 9 || (decide (c % 10 < n) && decide (c / 10 < c % 10)))
theorem chN_21 : ∀ n, n < 7 → cnt (chN n) 60 0 ≤ 21 := by decide
theorem rws_21 {L : RLt} {ab : Nat} : ∀ d T, WF T → (rws L ab d T).length ≤ 21 ^ d
  | 0, T, w => by
    unfold rws
    split <;> simp
  | d + 1, T, w => by
    unfold rws
    split
    · simp
      exact Nat.one_le_pow _ _ (by decide)
    · have h1 := ctn_len (P := okC L T ab) (F := fun c => (rws L ab d (doT L T ab c)).map (c :: ·)) (B := 21 ^ d) (fun c hc => by
        rw [List.length_map]
        exact rws_21 d _ (do_WF w hc)) 60 0
      have h2 := cnt_le (P := okC L T ab) (Q := chN (T 0)) (fun c hc => (okC_in hc).1) 60 0
      have h3 := chN_21 (T 0) (by have := w.n; omega)
      have h4 : cnt (okC L T ab) 60 0 * 21 ^ d ≤ 21 * 21 ^ d := Nat.mul_le_mul_right _ (by omega)
      rw [Nat.pow_succ, Nat.mul_comm (21 ^ d) 21]
      omega
section TSE
variable {h0 : St} {z : Int32} {U : Nat → Int32} {ab : Nat} {L : RLt} {en : Nat → Nat}
theorem tw_next0 {h : St} {T : Tn} (k : TR h0 h T z U ab) (w : WF T) (ha : ab ≤ 6) (hU : UR U L en) (hL : LOK L) : ∃ h', tF_nextChange h (-1) = some (encM (nx (okC L T ab) 60 0), h') ∧ TR h0 h' T z U ab ∧ ∀ b, b ≠ 6 → h' b = h b :=
  tw_next k w ha hU hL m1_0 (m1_nle (by omega)) (by omega) (fun n hn => ⟨fun q => absurd q (m1_nle hn), fun q => by omega⟩)
theorem tw_nextc {h : St} {T : Tn} (k : TR h0 h T z U ab) (w : WF T) (ha : ab ≤ 6) (hU : UR U L en) (hL : LOK L) {c : Nat} (hc : c < 60) : ∃ h', tF_nextChange h (nI c) = some (encM (nx (okC L T ab) (60 - (c + 1)) (c + 1)), h') ∧ TR h0 h' T z U ab ∧ ∀ b, b ≠ 6 → h' b = h b :=
  tw_next k w ha hU hL (nI_1 c) (nI_ge (by omega) (by omega)) (by omega) (fun n hn => by rw [nI_leI (by omega) (by omega)]; omega)
theorem tw_thereSet {h : St} {T : Tn} (k : TR h0 h T z U ab) (w : WF T) (ha : ab ≤ 6) : tF_thereSet h = some (nI (clr (2 ^ T 0 - 1) ab)) := by
  have hn := w.n
  have hp : 1 ≤ 2 ^ T 0 := Nat.one_le_two_pow
  have h64 : 2 ^ T 0 ≤ 2 ^ 6 := Nat.pow_le_pow_right (by decide) hn
  unfold tF_thereSet
  rw [T_0 k, Option.bind_some, nI_bit (T 0) (by omega), n1, pk_sub hp, k.2.2.2.1]
  have c := clr_n (2 ^ T 0 - 1) (by omega) ab (by omega)
  unfold abI
  by_cases q : ab < 6
  · rw [if_pos q] at c
    rw [if_pos q, if_pos (nI_pos' (by omega)), ← n1, nI_bit ab (by omega), c]
  · rw [if_neg q, if_neg (by decide)]
    unfold clr
    rw [if_neg q]
theorem tw_isDone {h : St} {T : Tn} (k : TR h0 h T z U ab) (w : WF T) (ha : aOK T ab) : (nI (wS T ab (T 0)) = nI (clr (2 ^ T 0 - 1) ab)) ↔ dn T ab = true := by
  have hn := w.n
  have h64 : 2 ^ T 0 ≤ 2 ^ 6 := Nat.pow_le_pow_right (by decide) hn
  have h1 := wS_64 (T := T) (ab := ab) hn
  have h2 : clr (2 ^ T 0 - 1) ab ≤ 2 ^ T 0 - 1 := by
    unfold clr
    split
    · exact Nat.and_le_left
    · omega
  rw [nI_eq (by omega) (by omega)]
  exact dn_t ha w
/-- a row's head copied -/
theorem tw_copy {h : St} {T : Tn} (k : TR h0 h T z U ab) {d n : Nat} (hd : ∀ i, tN d i = true) (h9 : d ≠ 9) (hn : n ≤ 6) : ∃ h', iter (L := St × Int32) (T := St) (un2 fun s20a s20b =>
        if nI n ≤ s20b then
          some (.inr s20a)
        else
          (rd (s20a 9) 6 s20b).bind fun x23 =>
          (wr s20a d 6 s20b x23).bind fun g24 =>
          some (.inl (g24, (s20b + (1 : Int32))))) (h, (0 : Int32)) = some h' ∧ TR h0 h' T z U ab ∧ (∀ b, b ≠ d → h' b = h b) ∧ ∀ j, j < n → h' d j = h 9 j := by
  obtain ⟨t, e1, e2⟩ := iter_inv (body := un2 fun s20a s20b =>
        if nI n ≤ s20b then
          some (.inr s20a)
        else
          (rd (s20a 9) 6 s20b).bind fun x23 =>
          (wr s20a d 6 s20b x23).bind fun g24 =>
          some (.inl (g24, (s20b + (1 : Int32))))) (fun i s => ∃ h', s = (h', nI i) ∧ TR h0 h' T z U ab ∧ (∀ b, b ≠ d → h' b = h b) ∧ ∀ j, j < i → h' d j = h 9 j) (fun t => TR h0 t T z U ab ∧ (∀ b, b ≠ d → t b = h b) ∧ ∀ j, j < n → t d j = h 9 j) n
    (by
      rintro i hi s ⟨h1, rfl, k1, f1, r1⟩
      dsimp only [un2]
      obtain ⟨h2, a1, k2, a3⟩ := k1.wrS d 6 i (x := nI i) (h1 9 i) rfl (by omega) (by decide) (hd i)
      rw [if_neg (nI_ge hi (by omega)), rd_n (by omega) (by decide), Option.bind_some, a1, Option.bind_some, nI_1]
      refine ⟨_, rfl, h2, rfl, k2, fun b nb => ?_, fun j hj => ?_⟩
      · rw [a3, up2_o nb]
        exact f1 b nb
      · rw [a3, up2_row]
        by_cases e : j = i
        · subst e
          rw [pk_us, f1 9 (fun q => h9 q.symm)]
        · rw [pk_un e]
          exact r1 j (by omega))
    (by
      rintro s ⟨h1, rfl, k1, f1, r1⟩
      refine ⟨h1, ?_, k1, f1, r1⟩
      dsimp only [un2]
      rw [if_pos (nI_le (Nat.le_refl _) (by omega))]) n 0 (h, (0 : Int32)) (by omega) ⟨h, rfl, k, fun _ _ => rfl, fun j hj => by omega⟩
  exact ⟨t, e1, e2⟩
/-- what the reference's fields say of what was found -/
def accT (h : St) (a : Acc) : Prop := h 0 11 = nI a.1 ∧ h 0 12 = nI a.2.1 ∧ a.2.1 ≤ 6 ∧ (match a.2.2.1 with
  | none => h 0 13 = -1
  | some r => h 0 13 = nI r.length ∧ r.length ≤ 6 ∧ rowIs (h 10) r) ∧ match a.2.2.2 with
  | none => h 0 14 = -1
  | some q => h 0 14 = nI q.1 ∧ q.1 ≤ 2976 ∧ h 0 15 = nI q.2.length ∧ q.2.length ≤ 6 ∧ rowIs (h 11) q.2
theorem accT.of {g g' : St} {a : Acc} (h : accT g a) (e0 : ∀ i, 11 ≤ i → i ≤ 15 → g' 0 i = g 0 i) (e1 : g' 10 = g 10) (e2 : g' 11 = g 11) : accT g' a := by
  unfold accT at h ⊢
  rw [e1, e2, e0 11 (by omega) (by omega), e0 12 (by omega) (by omega), e0 13 (by omega) (by omega), e0 14 (by omega) (by omega), e0 15 (by omega) (by omega)]
  exact h
theorem rowIs_cp {f f' : Nat → Int32} {l : List Nat} (h : rowIs f l) (e : ∀ j, j < l.length → f' j = f j) : rowIs f' l := by
  intro i v hv
  have hi : i < l.length := by
    by_cases q : i < l.length
    · exact q
    · rw [List.getElem?_eq_none (by omega)] at hv
      cases hv
  rw [e i hi]
  exact h i v hv
theorem tw_keeps {h : St} {T : Tn} {a : Acc} {pre : List Nat} {c : Nat} (k : TR h0 h T z U ab) (hacc : accT h a) (hrow : rowIs (h 9) pre) (hl : pre.length ≤ 6) (hc : c ≤ 2976) : ∃ h', tF_keeps h (nI pre.length) (nI c) = some h' ∧ TR h0 h' T z U ab ∧ accT h' (dA a pre c) ∧ h' 9 = h 9 := by
  obtain ⟨q1, q2, q3, q4, q5⟩ := hacc
  unfold tF_keeps
  have p1 : pf h 0 11 (h 0 11 + 1) = some (up2 h 0 11 (h 0 11 + 1)) := rfl
  rw [p1, Option.bind_some]
  have k1 := k.scr (b := 0) (i := 11) (h 0 11 + 1) rfl
  have u11 : up2 h 0 11 (h 0 11 + 1) 0 11 = nI (a.1 + 1) := by rw [up2_s, q1, nI_1]
  have u0 : ∀ i, i ≠ 11 → up2 h 0 11 (h 0 11 + 1) 0 i = h 0 i := fun i n => up2_n (by omega)
  have ub : ∀ b, b ≠ 0 → up2 h 0 11 (h 0 11 + 1) b = h b := fun b n => up2_o n
  generalize up2 h 0 11 (h 0 11 + 1) = h1 at k1 u11 u0 ub
  -- the shortest
  have first : ∃ h2, (if (h1 0 13) < 0 then
      (pf h1 0 13 (nI pre.length)).bind fun g19 =>
      iter (L := St × Int32) (T := St) (un2 fun s20a s20b =>
        if nI pre.length ≤ s20b then
          some (.inr s20a)
        else
          (rd (s20a 9) 6 s20b).bind fun x23 =>
          (wr s20a 10 6 s20b x23).bind fun g24 =>
          some (.inl (g24, (s20b + (1 : Int32))))) (g19, (0 : Int32))
    else
      if (h1 0 13) ≤ nI pre.length then
        some h1
      else
        (pf h1 0 13 (nI pre.length)).bind fun g27 =>
        iter (L := St × Int32) (T := St) (un2 fun s28a s28b =>
          if nI pre.length ≤ s28b then
            some (.inr s28a)
          else
            (rd (s28a 9) 6 s28b).bind fun x31 =>
            (wr s28a 10 6 s28b x31).bind fun g32 =>
            some (.inl (g32, (s28b + (1 : Int32))))) (g27, (0 : Int32))) = some h2 ∧ TR h0 h2 T z U ab ∧ (∀ i, i ≠ 13 → h2 0 i = h1 0 i) ∧ (∀ b, b ≠ 0 → b ≠ 10 → h2 b = h1 b) ∧ (match mSh a.2.2.1 pre with
      | none => h2 0 13 = -1
      | some r => h2 0 13 = nI r.length ∧ r.length ≤ 6 ∧ rowIs (h2 10) r) := by
    have put : ∃ h2, ((pf h1 0 13 (nI pre.length)).bind fun g19 =>
      iter (L := St × Int32) (T := St) (un2 fun s20a s20b =>
        if nI pre.length ≤ s20b then
          some (.inr s20a)
        else
          (rd (s20a 9) 6 s20b).bind fun x23 =>
          (wr s20a 10 6 s20b x23).bind fun g24 =>
          some (.inl (g24, (s20b + (1 : Int32))))) (g19, (0 : Int32))) = some h2 ∧ TR h0 h2 T z U ab ∧ (∀ i, i ≠ 13 → h2 0 i = h1 0 i) ∧ (∀ b, b ≠ 0 → b ≠ 10 → h2 b = h1 b) ∧ h2 0 13 = nI pre.length ∧ pre.length ≤ 6 ∧ rowIs (h2 10) pre := by
      have p2 : pf h1 0 13 (nI pre.length) = some (up2 h1 0 13 (nI pre.length)) := rfl
      rw [p2, Option.bind_some]
      obtain ⟨h2, b1, b2, b3, b4⟩ := tw_copy (k1.scr (b := 0) (i := 13) (nI pre.length) rfl) (d := 10) (n := pre.length) (fun i => rfl) (by decide) hl
      refine ⟨h2, b1, b2, fun i n => ?_, fun b n1 n2 => ?_, ?_, hl, ?_⟩
      · rw [b3 0 (by decide)]
        exact up2_n (by omega)
      · rw [b3 b n2, up2_o n1]
      · rw [b3 0 (by decide), up2_s]
      · refine rowIs_cp hrow (fun j hj => ?_)
        rw [b4 j hj, up2_o (by decide), ub 9 (by decide)]
    rw [u0 13 (by decide)]
    cases e : a.2.2.1 with
    | none =>
      rw [e] at q4
      have q4 : h 0 13 = -1 := q4
      rw [q4, if_pos (by decide)]
      obtain ⟨h2, b1, b2, b3, b4, b5⟩ := put
      exact ⟨h2, b1, b2, b3, b4, b5⟩
    | some r =>
      rw [e] at q4
      obtain ⟨r1, r2, r3⟩ := q4
      rw [r1, if_neg (nI_pos (by omega)), il (by omega) (by omega)]
      by_cases hlt : pre.length < r.length
      · rw [if_neg (by omega)]
        obtain ⟨h2, b1, b2, b3, b4, b5⟩ := put
        refine ⟨h2, b1, b2, b3, b4, ?_⟩
        have em : mSh (some r) pre = some pre := if_pos hlt
        rw [em]
        exact b5
      · rw [if_pos (by omega)]
        refine ⟨h1, rfl, k1, fun _ _ => rfl, fun _ _ _ => rfl, ?_⟩
        have em : mSh (some r) pre = some r := if_neg hlt
        rw [em]
        exact ⟨by rw [u0 13 (by decide)]; exact r1, r2, rowIs_of r3 (ub 10 (by decide))⟩
  obtain ⟨h2, f1, k2, f3, f4, f5⟩ := first
  rw [f1, Option.bind_some]
  have e14 : h2 0 14 = h 0 14 := by rw [f3 14 (by decide), u0 14 (by decide)]
  have put : (∀ b r, a.2.2.2 = some (b, r) → c < b) → ∃ h', ((pf h2 0 14 (nI c)).bind fun g6 =>
      (pf g6 0 15 (nI pre.length)).bind fun g7 =>
      iter (L := St × Int32) (T := St) (un2 fun s8a s8b =>
        if nI pre.length ≤ s8b then
          some (.inr s8a)
        else
          (rd (s8a 9) 6 s8b).bind fun x11 =>
          (wr s8a 11 6 s8b x11).bind fun g12 =>
          some (.inl (g12, (s8b + (1 : Int32))))) (g7, (0 : Int32))) = some h' ∧ TR h0 h' T z U ab ∧ accT h' (dA a pre c) ∧ h' 9 = h 9 := by
    intro hb
    have p2 : pf h2 0 14 (nI c) = some (up2 h2 0 14 (nI c)) := rfl
    have p3 : ∀ g : St, pf g 0 15 (nI pre.length) = some (up2 g 0 15 (nI pre.length)) := fun _ => rfl
    rw [p2, Option.bind_some, p3, Option.bind_some]
    obtain ⟨h3, b1, b2, b3, b4⟩ := tw_copy ((k2.scr (b := 0) (i := 14) (nI c) rfl).scr (b := 0) (i := 15) (nI pre.length) rfl) (d := 11) (n := pre.length) (fun i => rfl) (by decide) hl
    have z0 : ∀ i, i ≠ 14 → i ≠ 15 → h3 0 i = h2 0 i := fun i n1 n2 => by
      rw [b3 0 (by decide), up2_n (by omega), up2_n (by omega)]
    have zb : ∀ b, b ≠ 0 → b ≠ 11 → h3 b = h2 b := fun b n1 n2 => by
      rw [b3 b n2, up2_o n1, up2_o n1]
    refine ⟨h3, b1, b2, ⟨?_, ?_, q3, ?_, ?_⟩, ?_⟩
    · rw [z0 11 (by decide) (by decide), f3 11 (by decide)]
      exact u11
    · rw [z0 12 (by decide) (by decide), f3 12 (by decide), u0 12 (by decide)]
      exact q2
    · show (match mSh a.2.2.1 pre with
        | none => _
        | some r => _)
      rw [z0 13 (by decide) (by decide), zb 10 (by decide) (by decide)]
      exact f5
    · have em : mCh a.2.2.2 c pre = some (c, pre) := by
        unfold mCh
        cases e : a.2.2.2 with
        | none => rfl
        | some q =>
          obtain ⟨b, r⟩ := q
          have := hb b r e
          show (if c < b then some (c, pre) else some (b, r)) = _
          rw [if_pos this]
      show (match mCh a.2.2.2 c pre with
        | none => _
        | some q => _)
      rw [em]
      refine ⟨?_, hc, ?_, hl, ?_⟩
      · rw [b3 0 (by decide), up2_n (by omega), up2_s]
      · rw [b3 0 (by decide), up2_s]
      · refine rowIs_cp hrow (fun j hj => ?_)
        rw [b4 j hj, up2_o (by decide), up2_o (by decide), f4 9 (by decide) (by decide), ub 9 (by decide)]
    · rw [zb 9 (by decide) (by decide), f4 9 (by decide) (by decide), ub 9 (by decide)]
  rw [e14]
  cases e : a.2.2.2 with
  | none =>
    rw [e] at q5
    have q5 : h 0 14 = -1 := q5
    rw [q5, if_pos (by decide)]
    exact put (fun b r hh => by rw [e] at hh; cases hh)
  | some q =>
    rw [e] at q5
    obtain ⟨p1, p2, p3, p4, p5⟩ := q5
    rw [p1, if_neg (nI_pos (by omega)), il (by omega) (by omega)]
    by_cases hlt : c < q.1
    · rw [if_neg (by omega)]
      exact put (fun b r hh => by rw [e] at hh; cases hh; exact hlt)
    · rw [if_pos (by omega)]
      refine ⟨h2, rfl, k2, ⟨?_, ?_, q3, f5, ?_⟩, ?_⟩
      · rw [f3 11 (by decide)]
        exact u11
      · rw [f3 12 (by decide), u0 12 (by decide)]
        exact q2
      · have em : mCh a.2.2.2 c pre = some q := by
          rw [e]
          show (if c < q.1 then some (c, pre) else some q) = _
          rw [if_neg hlt]
        show (match mCh a.2.2.2 c pre with
          | none => _
          | some q => _)
        rw [em, f3 14 (by decide), f3 15 (by decide), u0 14 (by decide), u0 15 (by decide), f4 11 (by decide) (by decide), ub 11 (by decide)]
        exact ⟨p1, p2, p3, p4, p5⟩
      · rw [f4 9 (by decide) (by decide), ub 9 (by decide)]
theorem tw_goes (hU : UR U L en) (hL : LOK L) : ∀ (d left : Nat) (T : Tn) (pre : List Nat) (k : Nat) (a : Acc) (h : St), left < d → pre.length + left ≤ 6 → k ≤ 496 * pre.length → WF T → aOK T ab → TR h0 h T z U ab → accT h a → rowIs (h 9) pre → ∃ h', tF_goes d h (nI pre.length) (nI (pre.length + left)) (nI k) = some h' ∧ TR h0 h' T z U ab ∧ accT h' (goA L ab left T pre k a) ∧ rowIs (h' 9) pre := by
  intro d
  induction d with
  | zero => intro left T pre k a h hd; omega
  | succ d ih =>
    intro left T pre k a h hd hpl hk w ha t hacc hrow
    have ha6 := ha.le w
    have hn := w.n
    have hpop := pop_le (wS T ab (T 0))
    rw [tF_goes]
    dsimp only
    rw [tw_wholeSet t w ha6, Option.bind_some, tw_ones (wS_64 hn), Option.bind_some, hacc.2.1, il (by omega) (by have := hacc.2.2.1; omega)]
    have hmx : (if pop (wS T ab (T 0)) ≤ a.2.1 then some (nI a.2.1) else some (nI (pop (wS T ab (T 0))))) = some (nI (mA a (pop (wS T ab (T 0)))).2.1) := by
      show _ = some (nI (if a.2.1 < pop (wS T ab (T 0)) then pop (wS T ab (T 0)) else a.2.1))
      by_cases q : a.2.1 < pop (wS T ab (T 0))
      · rw [if_neg (by omega), if_pos q]
      · rw [if_pos (by omega), if_neg q]
    rw [hmx, Option.bind_some]
    have p1 : pf h 0 12 (nI (mA a (pop (wS T ab (T 0)))).2.1) = some (up2 h 0 12 (nI (mA a (pop (wS T ab (T 0)))).2.1)) := rfl
    rw [p1, Option.bind_some]
    have t2 := t.scr (b := 0) (i := 12) (nI (mA a (pop (wS T ab (T 0)))).2.1) rfl
    have hacc2 : accT (up2 h 0 12 (nI (mA a (pop (wS T ab (T 0)))).2.1)) (mA a (pop (wS T ab (T 0)))) := by
      obtain ⟨q1, q2, q3, q4, q5⟩ := hacc
      refine ⟨?_, up2_s, ?_, ?_, ?_⟩
      · rw [up2_n (by omega)]; exact q1
      · show (if a.2.1 < pop (wS T ab (T 0)) then pop (wS T ab (T 0)) else a.2.1) ≤ 6
        split <;> omega
      · rw [up2_n (by omega), up2_o (by decide)]
        exact q4
      · rw [up2_n (by omega), up2_n (by omega), up2_o (by decide)]
        exact q5
    have hrow2 : rowIs (up2 h 0 12 (nI (mA a (pop (wS T ab (T 0)))).2.1) 9) pre := rowIs_of hrow (up2_o (by decide))
    generalize up2 h 0 12 (nI (mA a (pop (wS T ab (T 0)))).2.1) = h2 at t2 hacc2 hrow2
    rw [tw_thereSet t2 w ha6, Option.bind_some]
    have gU : goA L ab left T pre k a = if dn T ab then dA (mA a (pop (wS T ab (T 0)))) pre k else (match left with | 0 => mA a (pop (wS T ab (T 0))) | l + 1 => foC (okC L T ab) (fun c a => goA L ab l (doT L T ab c) (pre ++ [c]) (k + cst L T ab c) a) 60 0 (mA a (pop (wS T ab (T 0))))) := by
      cases left <;> rfl
    rw [gU]
    generalize mA a (pop (wS T ab (T 0))) = a2 at hacc2
    have hdt := tw_isDone t2 w ha
    by_cases hdn : dn T ab = true
    · rw [if_pos (hdt.mpr hdn), if_pos hdn]
      obtain ⟨h3, b1, b2, b3, b4⟩ := tw_keeps t2 hacc2 hrow2 (by omega) (c := k) (by omega)
      rw [b1, Option.bind_some]
      exact ⟨h3, rfl, b2, b3, rowIs_of hrow2 b4⟩
    · rw [if_neg (fun q => hdn (hdt.mp q)), if_neg hdn]
      cases left with
      | zero =>
        rw [if_pos (by rfl)]
        exact ⟨h2, rfl, t2, hacc2, hrow2⟩
      | succ l =>
        dsimp only
        rw [if_neg (fun q => by have := (nI_eq (by omega) (by omega)).mp q; omega)]
        obtain ⟨h3, n1', n2, n3⟩ := tw_next0 t2 w ha6 hU hL
        rw [n1', Option.bind_some]
        dsimp only [un2]
        obtain ⟨r, e1, e2⟩ := iter_nx (R := Unit) (body := fun x =>
          if x.2 < 0 then
            some (.inr x.1)
          else
            (tF_does x.1 x.2).bind fun g12 =>
            (wr g12 9 6 (nI pre.length) x.2).bind fun g13 =>
            (tF_goes d g13 (nI pre.length + (1 : Int32)) (nI (pre.length + (l + 1))) (nI k + (g12 0 7))).bind fun g14 =>
            (tF_undoes g14 x.2 (g12 0 6) (g12 0 7)).bind fun g15 =>
            (tF_nextChange g15 x.2).bind (fun y => some (.inl (y.2, y.1)))) (okC L T ab) (fun c a => .inl (goA L ab l (doT L T ab c) (pre ++ [c]) (k + cst L T ab c) a)) 60 (fun a c s => ∃ h', s = (h', encM c) ∧ TR h0 h' T z U ab ∧ accT h' a ∧ rowIs (h' 9) pre) (fun a t => TR h0 t T z U ab ∧ accT t a ∧ rowIs (t 9) pre) (fun _ _ => False)
          (by
            rintro s c l' hc hok ⟨g1, rfl, k1, ac1, r1⟩
            left
            have hch := (okC_in hok).1
            have hcst := cst_le (ab := ab) w hL hch
            obtain ⟨g2, a1, k2, a3, a4, a5, a6⟩ := tw_does k1 w ha6 hU hL hok
            dsimp only
            rw [encM_in hc, if_neg (nI_pos (by omega)), a1, Option.bind_some]
            obtain ⟨g3, b1, k3, b3⟩ := k2.wrS 9 6 pre.length (x := nI pre.length) (nI c) rfl (by omega) (by decide) rfl
            have r3 : rowIs (g3 9) (pre ++ [c]) := by
              rw [b3, up2_row, a5 9 (by decide) (by decide) (by decide)]
              exact rowIs_snoc r1 c
            have ac3 : accT g3 s := ac1.of (fun i i1 i2 => by rw [b3, up2_o (by decide), a6 i (by omega) (by omega)]) (by rw [b3, up2_o (by decide), a5 10 (by decide) (by decide) (by decide)]) (by rw [b3, up2_o (by decide), a5 11 (by decide) (by decide) (by decide)])
            have el : nI pre.length + 1 = nI (pre ++ [c]).length := by rw [nI_1]; simp
            have el2 : nI (pre.length + (l + 1)) = nI ((pre ++ [c]).length + l) := by congr 1; simp; omega
            have hn0 : doT L T ab c 0 = T 0 := do_o w hok (by omega)
            obtain ⟨g4, c1, k4, ac4, r4⟩ := ih l (doT L T ab c) (pre ++ [c]) (k + cst L T ab c) s g3 (by omega) (by simp; omega) (by simp; omega) (do_WF w hok) (by unfold aOK; rw [hn0]; exact ha) k3 ac3 r3
            rw [b1, Option.bind_some, a4, nI_add, el, el2, c1, Option.bind_some, a3]
            obtain ⟨g5, d1, k5, d3⟩ := tw_undoes w hok k4
            rw [d1, Option.bind_some]
            obtain ⟨g6, f1, k6, f3⟩ := tw_nextc k5 w ha6 hU hL hc
            rw [f1, Option.bind_some]
            refine ⟨_, (g6, encM (nx (okC L T ab) (60 - (c + 1)) (c + 1))), rfl, rfl, g6, rfl, k6, ?_, ?_⟩
            · exact ac4.of (fun i _ _ => by rw [f3 0 (by decide), d3 0 (by decide)]) (by rw [f3 10 (by decide), d3 10 (by decide)]) (by rw [f3 11 (by decide), d3 11 (by decide)])
            · rw [f3 9 (by decide), d3 9 (by decide)]
              exact rowIs_pre r4)
          (by
            rintro s l' ⟨g1, rfl, k1, ac1, r1⟩
            exact ⟨g1, rfl, k1, ac1, r1⟩) 60 0 a2 (h3, encM (nx (okC L T ab) 60 0)) (by omega) ⟨h3, rfl, n2, hacc2.of (fun i _ _ => by rw [n3 0 (by decide)]) (n3 10 (by decide)) (n3 11 (by decide)), rowIs_of hrow2 (n3 9 (by decide))⟩
        refine ⟨r, e1, ?_⟩
        rw [foC_fo] at e2
        exact e2
theorem tw_goesAll (hU : UR U L en) (hL : LOK L) {T : Tn} {h : St} {m : Nat} (hm : m ≤ 6) (w : WF T) (ha : aOK T ab) (k : TR h0 h T z U ab) : ∃ h', tF_goesAll h (nI m) = some h' ∧ TR h0 h' T z U ab ∧ accT h' (goA L ab m T [] 0 (0, 0, none, none)) := by
  unfold tF_goesAll
  have p : ∀ (g : St) (i : Nat) (v : Int32), pf g 0 i v = some (up2 g 0 i v) := fun _ _ _ => rfl
  rw [p, Option.bind_some, p, Option.bind_some, p, Option.bind_some, p, Option.bind_some]
  have k4 := (((k.scr (b := 0) (i := 11) 0 rfl).scr (b := 0) (i := 12) 0 rfl).scr (b := 0) (i := 13) (-1) rfl).scr (b := 0) (i := 14) (-1) rfl
  obtain ⟨g', a1, a2, a3, -⟩ := tw_goes hU hL 8 m T [] 0 (0, 0, none, none) _ (by omega) (by simp; omega) (by omega) w ha k4 (by
    refine ⟨?_, ?_, by decide, ?_, ?_⟩
    · rw [up2_n (by omega), up2_n (by omega), up2_n (by omega), up2_s]
      rfl
    · rw [up2_n (by omega), up2_n (by omega), up2_s]
      rfl
    · show up2 _ 0 14 (-1) 0 13 = -1
      rw [up2_n (by omega), up2_s]
    · show up2 _ 0 14 (-1) 0 14 = -1
      rw [up2_s]) rowIs_nil
  rw [show nI ([] : List Nat).length = 0 from rfl, show nI (([] : List Nat).length + m) = nI m by simp, show nI 0 = 0 from rfl] at a1
  rw [a1, Option.bind_some]
  exact ⟨g', rfl, a2, a3⟩
end TSE
