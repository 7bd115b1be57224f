/-! the component's searches -/
set_option maxRecDepth 100000
def rowIs (f : Nat → Int32) (l : List Nat) : Prop := ∀ i v, l[i]? = some v → f i = nI v
theorem rowIs_nil {f : Nat → Int32} : rowIs f [] := fun i v h => by simp at h
theorem rowIs_snoc {f : Nat → Int32} {l : List Nat} (h : rowIs f l) (c : Nat) : rowIs (upd f l.length (nI c)) (l ++ [c]) := by
  intro i v hv
  by_cases e : i = l.length
  · subst e
    rw [List.getElem?_append_right (Nat.le_refl _)] at hv
    simp at hv
    rw [pk_us, hv]
  · rw [pk_un e]
    by_cases q : i < l.length
    · rw [List.getElem?_append_left q] at hv
      exact h i v hv
    · have : (l ++ [c])[i]? = none := List.getElem?_eq_none (by simp; omega)
      rw [this] at hv
      cases hv
theorem rowIs_pre {f : Nat → Int32} {l r : List Nat} (h : rowIs f (l ++ r)) : rowIs f l := by
  intro i v hv
  have q : i < l.length := by
    by_cases q : i < l.length
    · exact q
    · rw [List.getElem?_eq_none (by omega)] at hv
      cases hv
  exact h i v (by rw [List.getElem?_append_left q]; exact hv)
theorem rowIs_of {f f' : Nat → Int32} {l : List Nat} (h : rowIs f l) (e : f' = f) : rowIs f' l := e ▸ h
theorem fo_foF {R : Type} {P Q : Nat → Bool} {F : Nat → Option R} : ∀ k c, fo P (fun c (_ : Unit) => if Q c then ((F c).elim (.inl () : Unit ⊕ R) .inr) else .inl ()) k c () = (foF (fun c => P c && Q c) F k c).elim (.inl ()) .inr
  | 0, _ => rfl
  | k + 1, c => by
    rw [fo_s]
    have ih := fo_foF (P := P) (Q := Q) (F := F) k (c + 1)
    unfold foF
    cases p : P c with
    | false =>
      rw [Bool.false_and, if_neg (by decide), if_neg (by decide)]
      exact ih
    | true =>
      cases q : Q c with
      | false =>
        rw [Bool.true_and, if_pos rfl, if_neg (by decide), if_neg (by decide)]
        exact ih
      | true =>
        rw [Bool.true_and, if_pos rfl, if_pos rfl, if_pos rfl]
        cases F c with
        | none => exact ih
        | some r => rfl
theorem m1_0 : (-1 : Int32) + 1 = nI 0 := by decide
theorem encA_in {c : Nat} (h : c < 60) : encA c = nI c := if_pos h
theorem ge99 {c : Nat} (h : c < 60) : ¬ (99 : Int32) ≤ nI c := by
  rw [show (99 : Int32) = nI 99 from rfl]
  exact nI_ge (by omega) (by omega)
section KSE
variable {g0 : St} {z : Int32} {ab : Nat} {E : EE} {L : RLt}
theorem kw_isDone {g : St} {T : Tn} (h : KR g0 g T z ab) (w : WF T) (ha : aOK T ab) : kF_isDone g = some (zI (dn T ab)) := by
  have hn := w.n
  have hp : 1 ≤ 2 ^ T 0 := Nat.one_le_two_pow
  have h64 : 2 ^ T 0 ≤ 2 ^ 6 := Nat.pow_le_pow_right (by decide) hn
  have h1 := wS_64 (T := T) (ab := 6) hn
  have h2 : (if ab < 6 then 2 ^ ab else 0) < 64 := by
    split
    · next q =>
      have : 2 ^ ab ≤ 2 ^ 5 := Nat.pow_le_pow_right (by decide) (by omega)
      omega
    · omega
  have h3 : wS T 6 (T 0) ||| (if ab < 6 then 2 ^ ab else 0) < 2 ^ 6 := Nat.or_lt_two_pow h1 h2
  unfold kF_isDone
  rw [kw_whole h w, Option.bind_some, kw_absentBit h (ha.le w), Option.bind_some, nI_or, K_0 h, nI_bit (T 0) (by omega), n1, pk_sub hp, ie (by omega) (by omega)]
  have e := dn_k ha w
  by_cases q : dn T ab = true
  · rw [if_pos (e.mpr q), q]
    rfl
  · rw [if_neg (fun r => q (e.mp r))]
    have : dn T ab = false := by simpa using q
    rw [this]
    rfl
theorem kw_doneIn (hL : LOK L) : ∀ (d left : Nat) (T : Tn) (pre : List Nat) (g : St), left < d → pre.length + left ≤ 6 → WF T → aOK T ab → ER E L T → KR g0 g T z ab → rowIs (g 17) pre → ∃ g', kF_doneIn E d g (nI left) (nI pre.length) = some (zI (dI L ab left T).isSome, g') ∧ KR g0 g' T z ab ∧ rowIs (g' 17) (pre ++ (dI L ab left T).getD []) := by
  intro d
  induction d with
  | zero => intro left T pre g hd; omega
  | succ d ih =>
    intro left T pre g hd hpl w ha hE k hrow
    have ha6 := ha.le w
    rw [kF_doneIn]
    dsimp only
    rw [kw_isDone k w ha, Option.bind_some, iz]
    by_cases hdn : dn T ab = true
    · rw [if_pos hdn, n0, ie (by omega) (by omega)]
      refine ⟨g, ?_, k, ?_⟩
      · cases left with
        | zero =>
          unfold dI
          rw [if_pos rfl, if_pos hdn]
          rfl
        | succ l =>
          unfold dI
          rw [if_neg (by omega), if_pos hdn]
          rfl
      · cases left with
        | zero =>
          unfold dI
          rw [if_pos hdn]
          simpa using hrow
        | succ l =>
          unfold dI
          rw [if_pos hdn]
          simpa using hrow
    · rw [if_neg hdn, kw_after k w m1_0 (by omega), Option.bind_some]
      cases left with
      | zero =>
        refine ⟨g, ?_, k, ?_⟩
        · unfold dI
          rw [if_neg hdn]
          apply iter_done
          dsimp only [un2]
          split
          · rfl
          · rw [if_pos (by decide)]
            rfl
        · unfold dI
          rw [if_neg hdn]
          simpa using hrow
      | succ l =>
        have hl0 : ¬ nI (l + 1) ≤ 0 := nI_nle (by omega) (by omega)
        obtain ⟨t, e1, e2⟩ := iter_nx (body := un2 fun s4a s4b =>
      if (99 : Int32) ≤ s4b then
        some (.inr ((0 : Int32), s4a))
      else
        if nI (l + 1) ≤ 0 then
          some (.inr ((0 : Int32), s4a))
        else
          (kF_can E s4a s4b).bind (un2 fun y8a y8b =>
          jn (S := St) (T := ((St × Int32) ⊕ (Int32 × St)))
            (if y8a = 0 then
              some (.inl y8b)
            else
              (wr y8b 17 6 (nI pre.length) s4b).bind fun g13 =>
              (dv s4b (10 : Int32)).bind fun x14 =>
              (rd (g13 46) 6 x14).bind fun x15 =>
              (kF_carry E g13 s4b).bind (un2 fun y16a y16b =>
              (kF_doneIn E d y16b (nI (l + 1) - (1 : Int32)) (nI pre.length + (1 : Int32))).bind (un2 fun y17a y17b =>
              (kF_carryBack y17b s4b x15 y16a).bind fun g19 =>
              if y17a = 0 then
                some (.inl g19)
              else
                some (.inr (.inr ((1 : Int32), g19))))))
            (fun j10 => (kF_after j10 s4b).bind fun x12 =>
            some (.inl (j10, x12))))) (chg T) (fun c (_ : Unit) => if can L T ab c then (((dI L ab l (doT L T ab c)).map (c :: ·)).elim (.inl () : Unit ⊕ List Nat) .inr) else .inl ()) 60 (fun _ c s => ∃ g', s = (g', encA c) ∧ KR g0 g' T z ab ∧ rowIs (g' 17) pre) (fun _ t => ∃ g', t = ((0 : Int32), g') ∧ KR g0 g' T z ab ∧ rowIs (g' 17) pre) (fun r t => ∃ g', t = ((1 : Int32), g') ∧ KR g0 g' T z ab ∧ rowIs (g' 17) (pre ++ r))
          (by
            rintro s c l' hc hP ⟨g1, rfl, k1, r1⟩
            obtain ⟨g2, a1, k2, a3⟩ := kw_can k1 w ha6 hE hL hP
            dsimp only [un2]
            rw [encA_in hc, if_neg (ge99 hc), if_neg hl0, a1, Option.bind_some]
            dsimp only [un2]
            rw [iz]
            have r2 : rowIs (g2 17) pre := rowIs_of r1 (a3 17 (by decide))
            cases q : can L T ab c with
            | false =>
              left
              refine ⟨(), (g2, encA (nx (chg T) (60 - (c + 1)) (c + 1))), by simp, ?_, g2, rfl, k2, r2⟩
              rw [if_neg (by decide)]
              show (kF_after g2 (nI c)).bind _ = _
              rw [kw_after k2 w (nI_1 c) (by omega), Option.bind_some]
            | true =>
              have hok : okC L T ab c = true := by
                unfold okC
                rw [hP, q]
                rfl
              obtain ⟨-, -, p6, -⟩ := chg_in w hP
              rw [if_pos rfl, if_pos rfl]
              obtain ⟨g3, b1, k3, b3⟩ := k2.wrK 17 6 pre.length (x := nI pre.length) (nI c) rfl (by omega) (by decide) rfl
              rw [b1, Option.bind_some, dv10 (by omega), Option.bind_some, K_ha k3 p6, Option.bind_some]
              obtain ⟨g4, c1, k4, c3⟩ := kw_carry k3 w ha6 hE hL hok
              rw [c1, Option.bind_some]
              dsimp only [un2]
              have r4 : rowIs (g4 17) (pre ++ [c]) := by
                rw [c3 17 (by decide) (by decide) (by decide) (by decide), b3, up2_row]
                exact rowIs_snoc r2 c
              have el : nI pre.length + 1 = nI (pre ++ [c]).length := by rw [nI_1]; simp
              have hn0 : doT L T ab c 0 = T 0 := do_o w hok (by omega)
              obtain ⟨g5, d1, k5, r5⟩ := ih l (doT L T ab c) (pre ++ [c]) g4 (by omega) (by simp; omega) (do_WF w hok) (by unfold aOK; rw [hn0]; exact ha) (do_ER w hE hok) k4 r4
              rw [nI_pred, el, d1, Option.bind_some]
              dsimp only [un2]
              obtain ⟨g6, f1, k6, f3⟩ := kw_back1 w hok k5
              rw [f1, Option.bind_some, iz]
              have r6 : g6 17 = g5 17 := f3 17 (by decide) (by decide) (by decide)
              cases e : dI L ab l (doT L T ab c) with
              | none =>
                left
                rw [e] at r5
                refine ⟨(), (g6, encA (nx (chg T) (60 - (c + 1)) (c + 1))), by simp, ?_, g6, rfl, k6, rowIs_pre (r := [c]) (by rw [r6]; simpa using r5)⟩
                rw [if_neg (by decide)]
                show (kF_after g6 (nI c)).bind _ = _
                rw [kw_after k6 w (nI_1 c) (by omega), Option.bind_some]
              | some r =>
                right
                rw [e] at r5
                refine ⟨c :: r, ((1 : Int32), g6), by simp, ?_, g6, rfl, k6, by rw [r6]; simpa using r5⟩
                rw [Option.isSome_some, if_pos rfl]
                rfl)
          (by
            rintro s l' ⟨g1, rfl, k1, r1⟩
            exact ⟨((0 : Int32), g1), rfl, g1, rfl, k1, r1⟩) 60 0 () (g, encA (nx (chg T) (60 - 0) 0)) (by omega) ⟨g, rfl, k, hrow⟩
        rw [fo_foF] at e2
        have eo : (fun c => chg T c && can L T ab c) = okC L T ab := rfl
        rw [eo] at e2
        unfold dI
        rw [if_neg hdn]
        rw [e1]
        cases q : foF (okC L T ab) (fun c => (dI L ab l (doT L T ab c)).map (c :: ·)) 60 0 with
        | none =>
          rw [q] at e2
          obtain ⟨g', rfl, k', r'⟩ := e2
          exact ⟨g', rfl, k', by simpa using r'⟩
        | some r =>
          rw [q] at e2
          obtain ⟨g', rfl, k', r'⟩ := e2
          exact ⟨g', rfl, k', r'⟩
/-- the fewest, at most m -/
def few (L : RLt) (ab m : Nat) (T : Tn) : Option (List Nat) := (fi (fun n => (dI L ab n T).isSome) (m + 1) 0).bind (fun n => dI L ab n T)
def flI (o : Option (List Nat)) : Int32 := match o with
  | none => -3
  | some r => nI r.length
theorem dI_len {L : RLt} {ab n : Nat} {T : Tn} {r : List Nat} (h : dI L ab n T = some r) : r.length = n := by
  rw [dI_rws n n T (Nat.le_refl _)] at h
  simpa using List.find?_some h
theorem few_len {L : RLt} {ab m : Nat} {T : Tn} {r : List Nat} (h : few L ab m T = some r) : r.length ≤ m := by
  unfold few at h
  cases q : fi (fun n => (dI L ab n T).isSome) (m + 1) 0 with
  | none => rw [q] at h; cases h
  | some n =>
    rw [q] at h
    have h1 := fi_in q
    have h2 := dI_len (n := n) (by simpa using h)
    omega
theorem kw_few (hL : LOK L) {T : Tn} {g : St} {m : Nat} (hm : m ≤ 6) (w : WF T) (ha : aOK T ab) (hE : ER E L T) (k : KR g0 g T z ab) : ∃ g', kF_fewestOf E g (nI m) = some (flI (few L ab m T), g') ∧ KR g0 g' T z ab ∧ ∀ r, few L ab m T = some r → rowIs (g' 17) r := by
  unfold kF_fewestOf
  obtain ⟨t, e1, e2⟩ := iter_inx (body := un2 fun s4a s4b =>
      if nI m < s4b then
        some (.inr (s4a, s4b))
      else
        (kF_doneIn E 8 s4a s4b (0 : Int32)).bind (un2 fun y7a y7b =>
        if y7a = 0 then
          some (.inl (y7b, (s4b + (1 : Int32))))
        else
          some (.inr (y7b, s4b)))) (fun i s => ∃ g', s = (g', nI i) ∧ KR g0 g' T z ab ∧ ∀ j, j < i → (dI L ab j T).isSome = false) (fun t => ∃ g', KR g0 g' T z ab ∧ ((t = (g', nI (m + 1)) ∧ fi (fun n => (dI L ab n T).isSome) (m + 1) 0 = none) ∨ ∃ n r, t = (g', nI n) ∧ n ≤ m ∧ fi (fun n => (dI L ab n T).isSome) (m + 1) 0 = some n ∧ dI L ab n T = some r ∧ rowIs (g' 17) r)) (m + 1)
    (by
      rintro i hi s ⟨g1, rfl, k1, lo⟩
      dsimp only [un2]
      rw [if_neg (nI_nlt (by omega) (by omega))]
      obtain ⟨g2, a1, k2, r2⟩ := kw_doneIn (ab := ab) hL 8 i T [] g1 (by omega) (by simp; omega) w ha hE k1 rowIs_nil
      rw [show (0 : Int32) = nI ([] : List Nat).length from rfl, a1, Option.bind_some]
      dsimp only [un2]
      rw [show nI ([] : List Nat).length = 0 from rfl, iz]
      cases q : dI L ab i T with
      | none =>
        left
        refine ⟨(g2, nI (i + 1)), ?_, g2, rfl, k2, fun j hj => ?_⟩
        · rw [if_neg (by decide), nI_1]
        · by_cases ej : j = i
          · subst ej
            rw [q]
            rfl
          · exact lo j (by omega)
      | some r =>
        right
        rw [q] at r2
        refine ⟨(g2, nI i), ?_, g2, k2, Or.inr ⟨i, r, rfl, by omega, ?_, q, by simpa using r2⟩⟩
        · rw [Option.isSome_some, if_pos rfl]
        · exact fi_least (by omega) (by omega) (by simp [q]) (fun j _ hj => lo j hj))
    (by
      rintro s ⟨g1, rfl, k1, lo⟩
      refine ⟨(g1, nI (m + 1)), ?_, g1, k1, Or.inl ⟨rfl, fi_none (fun i _ hi => lo i (by omega))⟩⟩
      dsimp only [un2]
      rw [if_pos (nI_lt (by omega) (by omega))]) (m + 1) 0 (g, (0 : Int32)) (by omega) ⟨g, rfl, k, fun j hj => by omega⟩
  rw [e1, Option.bind_some]
  obtain ⟨g', k', h | ⟨n, r, h1, h2, h3, h4, h5⟩⟩ := e2
  · obtain ⟨rfl, h2⟩ := h
    refine ⟨g', ?_, k', fun r hr => ?_⟩
    · dsimp only [un2]
      unfold few
      rw [if_pos (nI_lt (by omega) (by omega)), h2]
      rfl
    · unfold few at hr
      rw [h2] at hr
      cases hr
  · subst h1
    have hlen := dI_len h4
    refine ⟨g', ?_, k', fun r' hr => ?_⟩
    · dsimp only [un2]
      unfold few
      rw [if_neg (nI_nlt h2 (by omega)), h3, Option.bind_some, h4]
      show _ = some (nI r.length, g')
      rw [hlen]
    · unfold few at hr
      rw [h3, Option.bind_some, h4] at hr
      cases hr
      exact h5
/-- what the component's fields say of what was found -/
def accK (g : St) (a : Acc) : Prop := g 0 19 = nI a.1 ∧ g 0 20 = nI a.2.1 ∧ a.2.1 ≤ 6 ∧ match a.2.2.2 with
  | none => g 0 21 = -1 ∧ g 0 18 = 0
  | some q => g 0 21 = nI q.1 ∧ q.1 ≤ 2976 ∧ g 0 18 = nI q.2.length ∧ q.2.length ≤ 6 ∧ rowIs (g 18) q.2
theorem accK.of {g g' : St} {a : Acc} (h : accK g a) (e0 : g' 0 = g 0) (e1 : g' 18 = g 18) : accK g' a := by
  unfold accK at h ⊢
  rw [e0, e1]
  exact h
theorem cst_le {T : Tn} (w : WF T) (hL : LOK L) {c : Nat} (h : chg T c = true) : cst L T ab c ≤ 496 := by
  obtain ⟨-, -, p6, -⟩ := chg_in w h
  unfold cst
  split
  · exact pr_le w hL p6
  · omega
theorem kw_rows (hL : LOK L) : ∀ (d left : Nat) (T : Tn) (pre : List Nat) (k : Nat) (a : Acc) (g : St), left < d → pre.length + left ≤ 6 → k ≤ 496 * pre.length → WF T → ER E L T → KR g0 g T z 6 → accK g a → rowIs (g 17) pre → ∃ g', kF_rowsFrom E d g (nI left) (nI pre.length) (nI k) = some g' ∧ KR g0 g' T z 6 ∧ accK g' (goA L 6 left T pre k a) ∧ rowIs (g' 17) pre := by
  intro d
  induction d with
  | zero => intro left T pre k a g hd; omega
  | succ d ih =>
    intro left T pre k a g hd hpl hk w hE h hacc hrow
    have ha : aOK T 6 := Or.inr rfl
    have hn := w.n
    have hpop := pop_le (wS T 6 (T 0))
    rw [kF_rowsFrom]
    dsimp only
    rw [kw_whole h w, Option.bind_some, bc_n _ (wS_64 hn), hacc.2.1, it (by have := hacc.2.2.1; omega) (by omega)]
    have hmx : (if a.2.1 < pop (wS T 6 (T 0)) then nI (pop (wS T 6 (T 0))) else nI a.2.1) = nI (mA a (pop (wS T 6 (T 0)))).2.1 := by
      show _ = nI (if a.2.1 < pop (wS T 6 (T 0)) then pop (wS T 6 (T 0)) else a.2.1)
      split <;> rfl
    rw [hmx]
    unfold pf
    rw [Option.bind_some]
    have h2 := h.scr (b := 0) (i := 20) (nI (mA a (pop (wS T 6 (T 0)))).2.1) rfl
    have hacc2 : accK (up2 g 0 20 (nI (mA a (pop (wS T 6 (T 0)))).2.1)) (mA a (pop (wS T 6 (T 0)))) := by
      obtain ⟨q1, q2, q3, q4⟩ := hacc
      refine ⟨?_, up2_s, ?_, ?_⟩
      · rw [up2_n (by omega)]; exact q1
      · show (if a.2.1 < pop (wS T 6 (T 0)) then pop (wS T 6 (T 0)) else a.2.1) ≤ 6
        split <;> omega
      · rw [up2_n (by omega), up2_n (by omega), up2_o (by decide)]
        exact q4
    have hrow2 : rowIs (up2 g 0 20 (nI (mA a (pop (wS T 6 (T 0)))).2.1) 17) pre := rowIs_of hrow (up2_o (by decide))
    generalize up2 g 0 20 (nI (mA a (pop (wS T 6 (T 0)))).2.1) = g2 at h2 hacc2 hrow2
    rw [kw_isDone h2 w ha, Option.bind_some, iz]
    have gU : goA L 6 left T pre k a = if dn T 6 then dA (mA a (pop (wS T 6 (T 0)))) pre k else (match left with | 0 => mA a (pop (wS T 6 (T 0))) | l + 1 => foC (okC L T 6) (fun c a => goA L 6 l (doT L T 6 c) (pre ++ [c]) (k + cst L T 6 c) a) 60 0 (mA a (pop (wS T 6 (T 0))))) := by
      cases left <;> rfl
    rw [gU]
    generalize mA a (pop (wS T 6 (T 0))) = a2 at hacc2
    by_cases hdn : dn T 6 = true
    · rw [if_pos hdn, if_pos hdn, Option.bind_some]
      have h3 := h2.scr (b := 0) (i := 19) (g2 0 19 + 1) rfl
      obtain ⟨q1, q2, q3, q4⟩ := hacc2
      have e21 : up2 g2 0 19 (g2 0 19 + 1) 0 21 = g2 0 21 := up2_n (by omega)
      rw [e21]
      have cpy6 : ∀ s : St, cpy s 17 6 18 6 0 0 (nI pre.length) = some (upA s 18 (va_cpy (s 17) (s 18) 0 0 pre.length)) := by
        intro s
        unfold cpy
        rw [nI_clamp (by omega), if_neg]
        · rfl
        · intro q
          rcases q with q | q | q | q | q
          · exact absurd q (by decide)
          · exact absurd q (by decide)
          · exact nI_pos (by omega) q
          · have : (0 : Int32).toNatClampNeg = 0 := rfl
            omega
          · have : (0 : Int32).toNatClampNeg = 0 := rfl
            omega
      have put : (∀ b r, a2.2.2.2 = some (b, r) → k < b) → ∃ g', ((pf (up2 g2 0 19 (g2 0 19 + 1)) 0 21 (nI k)).bind fun g29 => (pf g29 0 18 (nI pre.length)).bind fun g30 => (cpy g30 17 6 18 6 (0 : Int32) (0 : Int32) (nI pre.length)).bind fun g31 => some g31) = some g' ∧ KR g0 g' T z 6 ∧ accK g' (dA a2 pre k) ∧ rowIs (g' 17) pre := by
        intro hb
        unfold pf
        rw [Option.bind_some, Option.bind_some, cpy6, Option.bind_some]
        refine ⟨_, rfl, ((h3.scr (b := 0) (i := 21) (nI k) rfl).scr (b := 0) (i := 18) (nI pre.length) rfl).scrA (b := 18) _ (fun i => rfl), ?_, ?_⟩
        · have em : mCh a2.2.2.2 k pre = some (k, pre) := by
            unfold mCh
            cases e : a2.2.2.2 with
            | none => rfl
            | some q =>
              obtain ⟨b, r⟩ := q
              have := hb b r e
              show (if k < b then some (k, pre) else some (b, r)) = _
              rw [if_pos this]
          refine ⟨?_, ?_, q3, ?_⟩
          · rw [upA_n (by decide), up2_n (by omega), up2_n (by omega), up2_s, q1, nI_1]
            rfl
          · rw [upA_n (by decide), up2_n (by omega), up2_n (by omega), up2_n (by omega), q2]
            rfl
          · show (match mCh a2.2.2.2 k pre with
              | none => _
              | some q => _)
            rw [em]
            refine ⟨?_, by show k ≤ 2976; omega, ?_, by show pre.length ≤ 6; omega, ?_⟩
            · rw [upA_n (by decide), up2_n (by omega), up2_s]
            · rw [upA_n (by decide), up2_s]
            · rw [upA_s]
              intro i v hv
              have hv : pre[i]? = some v := hv
              have hi : i < pre.length := by
                by_cases q : i < pre.length
                · exact q
                · rw [List.getElem?_eq_none (by omega)] at hv
                  cases hv
              rw [pk_cpy_in (by omega) (by omega), show 0 + (i - 0) = i by omega, up2_o (by decide), up2_o (by decide), up2_o (by decide)]
              exact hrow2 i v hv
        · rw [upA_n (by decide), up2_o (by decide), up2_o (by decide), up2_o (by decide)]
          exact hrow2
      cases e : a2.2.2.2 with
      | none =>
        rw [e] at q4
        rw [q4.1, if_pos (by decide)]
        exact put (fun b r hh => by rw [e] at hh; cases hh)
      | some q =>
        rw [e] at q4
        obtain ⟨p1, p2, p3, p4, p5⟩ := q4
        rw [p1, if_neg (nI_pos (by omega)), it (by omega) (by omega)]
        by_cases hlt : k < q.1
        · rw [if_pos hlt]
          exact put (fun b r hh => by rw [e] at hh; cases hh; exact hlt)
        · rw [if_neg hlt]
          refine ⟨_, rfl, h3, ?_, ?_⟩
          · refine ⟨?_, ?_, q3, ?_⟩
            · rw [up2_s, q1, nI_1]
              rfl
            · rw [up2_n (by omega), q2]
              rfl
            · have em : mCh a2.2.2.2 k pre = some q := by
                rw [e]
                show (if k < q.1 then some (k, pre) else some q) = _
                rw [if_neg hlt]
              show (match mCh a2.2.2.2 k pre with
                | none => _
                | some q => _)
              rw [em]
              rw [up2_n (by omega), up2_n (by omega), up2_o (by decide)]
              exact ⟨p1, p2, p3, p4, p5⟩
          · rw [up2_o (by decide)]
            exact hrow2
    · rw [if_neg hdn, if_neg hdn, kw_after h2 w m1_0 (by omega), Option.bind_some]
      cases left with
      | zero =>
        refine ⟨g2, ?_, h2, hacc2, hrow2⟩
        apply iter_done
        dsimp only [un2]
        split
        · rfl
        · rw [if_pos (by decide)]
      | succ l =>
        have hl0 : ¬ nI (l + 1) ≤ 0 := nI_nle (by omega) (by omega)
        dsimp only
        obtain ⟨t, e1, e2⟩ := iter_nx (R := Unit) (body := un2 fun s6a s6b =>
      if (99 : Int32) ≤ s6b then
        some (.inr s6a)
      else
        if nI (l + 1) ≤ 0 then
          some (.inr s6a)
        else
          (kF_can E s6a s6b).bind (un2 fun y10a y10b =>
          Option.bind (α := St) (β := ((St × Int32) ⊕ (St)))
            (if y10a = 0 then
              some y10b
            else
              (wr y10b 17 6 (nI pre.length) s6b).bind fun g15 =>
              (dv s6b (10 : Int32)).bind fun x16 =>
              (rd (g15 46) 6 x16).bind fun x17 =>
              (kF_carry E g15 s6b).bind (un2 fun y18a y18b =>
              (kF_rowsFrom E d y18b (nI (l + 1) - (1 : Int32)) (nI pre.length + (1 : Int32)) (nI k + y18a)).bind fun g19 =>
              (kF_carryBack g19 s6b x17 y18a).bind fun g20 =>
              some g20))
            (fun j12 => (kF_after j12 s6b).bind fun x14 =>
            some (.inl (j12, x14))))) (chg T) (fun c a => .inl (if can L T 6 c then goA L 6 l (doT L T 6 c) (pre ++ [c]) (k + cst L T 6 c) a else a)) 60 (fun a c s => ∃ g', s = (g', encA c) ∧ KR g0 g' T z 6 ∧ accK g' a ∧ rowIs (g' 17) pre) (fun a t => KR g0 t T z 6 ∧ accK t a ∧ rowIs (t 17) pre) (fun _ _ => False)
          (by
            rintro s c l' hc hP ⟨g1, rfl, k1, ac1, r1⟩
            left
            obtain ⟨g2', a1, k2, a3⟩ := kw_can k1 w (by omega) hE hL hP
            dsimp only [un2]
            rw [encA_in hc, if_neg (ge99 hc), if_neg hl0, a1, Option.bind_some]
            dsimp only [un2]
            rw [iz]
            have r2 : rowIs (g2' 17) pre := rowIs_of r1 (a3 17 (by decide))
            have ac2 : accK g2' s := ac1.of (a3 0 (by decide)) (a3 18 (by decide))
            cases q : can L T 6 c with
            | false =>
              refine ⟨s, (g2', encA (nx (chg T) (60 - (c + 1)) (c + 1))), by simp, ?_, g2', rfl, k2, ac2, r2⟩
              rw [if_neg (by decide), Option.bind_some, kw_after k2 w (nI_1 c) (by omega), Option.bind_some]
            | true =>
              have hok : okC L T 6 c = true := by
                unfold okC
                rw [hP, q]
                rfl
              obtain ⟨-, -, p6, -⟩ := chg_in w hP
              have hcst := cst_le (ab := 6) w hL hP
              rw [if_pos rfl, if_pos rfl]
              obtain ⟨g3, b1, k3, b3⟩ := k2.wrK 17 6 pre.length (x := nI pre.length) (nI c) rfl (by omega) (by decide) rfl
              rw [b1, Option.bind_some, dv10 (by omega), Option.bind_some, K_ha k3 p6, Option.bind_some]
              obtain ⟨g4, c1, k4, c3⟩ := kw_carry k3 w (by omega) hE hL hok
              rw [c1, Option.bind_some]
              dsimp only [un2]
              have f17 : g4 17 = g3 17 := c3 17 (by decide) (by decide) (by decide) (by decide)
              have f0 : g4 0 = g2' 0 := by rw [c3 0 (by decide) (by decide) (by decide) (by decide), b3, up2_o (by decide)]
              have f18 : g4 18 = g2' 18 := by rw [c3 18 (by decide) (by decide) (by decide) (by decide), b3, up2_o (by decide)]
              have r4 : rowIs (g4 17) (pre ++ [c]) := by
                rw [f17, b3, up2_row]
                exact rowIs_snoc r2 c
              have el : nI pre.length + 1 = nI (pre ++ [c]).length := by rw [nI_1]; simp
              obtain ⟨g5, d1, k5, ac5, r5⟩ := ih l (doT L T 6 c) (pre ++ [c]) (k + cst L T 6 c) s g4 (by omega) (by simp; omega) (by simp; omega) (do_WF w hok) (do_ER w hE hok) k4 (ac2.of f0 f18) r4
              rw [nI_pred, el, nI_add, d1, Option.bind_some]
              obtain ⟨g6, f1, k6, f3⟩ := kw_back1 w hok k5
              rw [f1, Option.bind_some, Option.bind_some, kw_after k6 w (nI_1 c) (by omega), Option.bind_some]
              refine ⟨_, (g6, encA (nx (chg T) (60 - (c + 1)) (c + 1))), rfl, rfl, g6, rfl, k6, ?_, ?_⟩
              · exact ac5.of (f3 0 (by decide) (by decide) (by decide)) (f3 18 (by decide) (by decide) (by decide))
              · rw [f3 17 (by decide) (by decide) (by decide)]
                exact rowIs_pre r5)
          (by
            rintro s l' ⟨g1, rfl, k1, ac1, r1⟩
            exact ⟨g1, rfl, k1, ac1, r1⟩) 60 0 a2 (g2, encA (nx (chg T) (60 - 0) 0)) (by omega) ⟨g2, rfl, h2, hacc2, hrow2⟩
        refine ⟨t, e1, ?_⟩
        have ef : fo (R := Unit) (chg T) (fun c a => .inl (if can L T 6 c then goA L 6 l (doT L T 6 c) (pre ++ [c]) (k + cst L T 6 c) a else a)) 60 0 a2 = .inl (foC (okC L T 6) (fun c a => goA L 6 l (doT L T 6 c) (pre ++ [c]) (k + cst L T 6 c) a) 60 0 a2) := by
          rw [← foC_fo]
          have := fo_and (R := Unit) (chg T) (can L T 6) (fun c a => .inl (goA L 6 l (doT L T 6 c) (pre ++ [c]) (k + cst L T 6 c) a)) 60 0 a2
          rw [← show (fun c => chg T c && can L T 6 c) = okC L T 6 from rfl, ← this]
          congr 1
          funext c a
          split <;> rfl
        rw [ef] at e2
        exact e2
theorem kw_findRows (hL : LOK L) {T : Tn} {g : St} {m : Nat} (hm : m ≤ 6) (w : WF T) (hE : ER E L T) (k : KR g0 g T z 6) : ∃ g', kF_findRows E g (nI m) = some g' ∧ KR g0 g' T z 6 ∧ accK g' (goA L 6 m T [] 0 (0, 0, none, none)) := by
  unfold kF_findRows pf
  rw [Option.bind_some, Option.bind_some, Option.bind_some, Option.bind_some]
  have k4 := (((k.scr (b := 0) (i := 19) 0 rfl).scr (b := 0) (i := 20) 0 rfl).scr (b := 0) (i := 21) (-1) rfl).scr (b := 0) (i := 18) 0 rfl
  obtain ⟨g', a1, a2, a3, -⟩ := kw_rows hL 8 m T [] 0 (0, 0, none, none) _ (by omega) (by simp; omega) (by omega) w hE k4 (by
    refine ⟨?_, ?_, by decide, ?_, ?_⟩
    · rw [up2_n (by omega), up2_n (by omega), up2_n (by omega), up2_s]
      rfl
    · rw [up2_n (by omega), up2_n (by omega), up2_s]
      rfl
    · rw [up2_n (by omega), up2_s]
    · rw [up2_s]) rowIs_nil
  rw [show nI ([] : List Nat).length = 0 from rfl, show nI 0 = 0 from rfl] at a1
  rw [a1, Option.bind_some]
  exact ⟨g', rfl, a2, a3⟩
end KSE
