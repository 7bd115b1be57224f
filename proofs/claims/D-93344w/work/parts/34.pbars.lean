/-! bars, jars, what fee would do -/
set_option maxRecDepth 100000
theorem up2_up2 {g : St} {a i : Nat} {v w : Int32} : up2 (up2 g a i v) a i w = up2 g a i w := by
  funext b j
  rw [up2_eq, up2_eq]
  by_cases q : b = a ∧ j = i
  · rw [if_pos q, up2_eq, if_pos q]
  · rw [if_neg q, if_neg q, up2_n q]
theorem mSh_fold : ∀ (R : List (List Nat)) (o : Option (List Nat)), (R.foldl (fun o r => mSh o r) o = none) ↔ (R = [] ∧ o = none)
  | [], o => by simp
  | r :: R, o => by
    rw [List.foldl_cons, mSh_fold R (mSh o r)]
    have : mSh o r ≠ none := by
      unfold mSh
      split
      · simp
      · split <;> simp
    simp [this]
theorem cnt_few (L : RLt) (ab m : Nat) (T : Tn) : (goA L ab m T [] 0 (0, 0, none, none)).1 = 0 ↔ few L ab m T = none := by
  have h1 := (goA_rws (L := L) (ab := ab) m T [] 0 (0, 0, none, none))
  have h2 : few L ab m T = (rws L ab m T).foldl (fun o r => mSh o r) none := by
    unfold few
    rw [← few_eq, h1.2]
    simp
  rw [h1.1, h2, mSh_fold]
  simp
theorem cnt_lt (L : RLt) (ab m : Nat) {T : Tn} (w : WF T) (hm : m ≤ 6) : (goA L ab m T [] 0 (0, 0, none, none)).1 < 2 ^ 31 := by
  have h1 := (goA_rws (L := L) (ab := ab) m T [] 0 (0, 0, none, none)).1
  have h2 := rws_21 (L := L) (ab := ab) m T w
  have h3 : 21 ^ m ≤ 21 ^ 6 := Nat.pow_le_pow_right (by decide) hm
  have h4 : (21 : Nat) ^ 6 < 2 ^ 31 := by decide
  rw [h1]
  dsimp only
  omega
theorem flI_neg {o : Option (List Nat)} (h : ∀ r, o = some r → r.length ≤ 6) : (flI o < 0) ↔ o = none := by
  cases o with
  | none => exact ⟨fun _ => rfl, fun _ => by decide⟩
  | some r =>
    have := h r rfl
    constructor
    · intro q
      exact absurd q (nI_pos (by omega))
    · intro q
      cases q
/-- by whom, were they not there, all would be done -/
def baS (L : RLt) (T : Tn) : Nat → Nat
  | 0 => 0
  | p + 1 => baS L T p ||| (if (few L p 6 T).isSome = true then 2 ^ p else 0)
section PBR
variable {E : EE} {L : RLt} {U : Nat → Int32} {en : Nat → Nat} {g0 h0 : St} {T : Tn} {z : Int32} {g h : St}
theorem kw_bars (j : JT E L U en g0 h0 T z g h) : ∃ g', kF_bars E g = some (if (few L 6 6 T).isSome = true then 0 else nI (baS L T (T 0)), g') ∧ KR g0 g' T z 6 := by
  have w := j.w
  have hn := w.n
  unfold kF_bars
  obtain ⟨g1, r1, r2, -⟩ := kw_few (m := 6) j.hL (by omega) w (Or.inr rfl) j.hE j.k
  rw [show (6 : Int32) = nI 6 from rfl, r1, Option.bind_some]
  dsimp only [un2]
  have hneg := flI_neg (o := few L 6 6 T) (fun r hr => few_len hr)
  cases q : few L 6 6 T with
  | some r =>
    rw [q] at hneg
    rw [if_neg (fun x => by cases hneg.mp x), Option.isSome_some, if_pos rfl]
    exact ⟨g1, rfl, r2⟩
  | none =>
    rw [q] at hneg
    have p : ∀ (s : St) (v : Int32), pf s 0 15 v = some (up2 s 0 15 v) := fun _ _ => rfl
    rw [if_pos (hneg.mpr rfl), p, Option.bind_some]
    obtain ⟨t, e1, e2⟩ := iter_inv (body := un2 fun s6a s6b =>
        if (s6a 40 0) ≤ (s6a 0 15) then
          some (.inr (s6a, s6b))
        else
          (kF_fewestOf E s6a (nI 6)).bind (un2 fun y9a y9b =>
          Option.bind (α := Int32) (β := ((St × Int32) ⊕ (St × Int32)))
            (if y9a < 0 then
              some (0 : Int32)
            else
              some ((1 : Int32) <<< ((y9b 0 15) &&& 31)))
            (fun j10 => (pf y9b 0 15 ((y9b 0 15) + (1 : Int32))).bind fun g12 =>
            some (.inl (g12, (s6b ||| j10)))))) (fun i s => ∃ g2, s = (up2 g2 0 15 (nI i), nI (baS L T i)) ∧ KR g0 g2 T z 6) (fun t => ∃ g2, t = (up2 g2 0 15 (nI (T 0)), nI (baS L T (T 0))) ∧ KR g0 g2 T z 6) (T 0)
      (by
        rintro i hi s ⟨g2, rfl, k2⟩
        have k3 := k2.puta (v := nI i) i (by unfold abI; rw [if_pos (by omega)])
        have e0 : up2 g2 0 15 (nI i) 40 0 = nI (T 0) := K_0 k3
        have e15 : up2 g2 0 15 (nI i) 0 15 = nI i := up2_s
        generalize up2 g2 0 15 (nI i) = g2' at k3 e0 e15
        dsimp only [un2]
        rw [if_neg (show ¬ g2' 40 0 ≤ g2' 0 15 by rw [e0, e15]; exact nI_ge hi (by omega))]
        obtain ⟨g3, a1, a2, -⟩ := kw_few (m := 6) j.hL (by omega) w (Or.inl hi) j.hE k3
        rw [a1, Option.bind_some]
        dsimp only [un2]
        have f15 : g3 0 15 = nI i := by
          rw [a2.2.2.1]
          unfold abI
          rw [if_pos (by omega)]
        have hneg2 := flI_neg (o := few L i 6 T) (fun r hr => few_len hr)
        rw [f15, nI_bit i (by omega)]
        have hb : (if flI (few L i 6 T) < 0 then some (0 : Int32) else some (nI (2 ^ i))) = some (nI (if (few L i 6 T).isSome = true then 2 ^ i else 0)) := by
          cases qq : few L i 6 T with
          | none =>
            rw [qq] at hneg2
            rw [if_pos (hneg2.mpr rfl)]
            rfl
          | some r =>
            rw [qq] at hneg2
            rw [if_neg (fun x => by cases hneg2.mp x)]
            rfl
        rw [hb, Option.bind_some, p, Option.bind_some, nI_or, nI_1]
        refine ⟨_, rfl, up2 g3 0 15 (-1), ?_, a2.puta 6 rfl⟩
        rw [up2_up2]
        rfl)
      (by
        rintro s ⟨g2, rfl, k2⟩
        refine ⟨(up2 g2 0 15 (nI (T 0)), nI (baS L T (T 0))), ?_, g2, rfl, k2⟩
        have e0 : up2 g2 0 15 (nI (T 0)) 40 0 = nI (T 0) := by
          rw [up2_n (by omega)]
          exact K_0 k2
        have e15 : up2 g2 0 15 (nI (T 0)) 0 15 = nI (T 0) := up2_s
        generalize up2 g2 0 15 (nI (T 0)) = g2' at e0 e15
        dsimp only [un2]
        rw [if_pos (show g2' 40 0 ≤ g2' 0 15 by rw [e0, e15]; exact nI_le (Nat.le_refl _) (by omega))]) (T 0) 0 (up2 g1 0 15 0, 0) (by omega) ⟨g1, rfl, r2⟩
    rw [e1, Option.bind_some]
    obtain ⟨g2, rfl, k2⟩ := e2
    dsimp only [un2]
    rw [p, Option.bind_some, up2_up2]
    exact ⟨_, rfl, k2.puta 6 rfl⟩
theorem tw_bars (j : JT E L U en g0 h0 T z g h) : ∃ h', tF_bars h = some (if (few L 6 6 T).isSome = true then 0 else nI (baS L T (T 0)), h') ∧ TR h0 h' T z U 6 := by
  have w := j.w
  have hn := w.n
  unfold tF_bars
  obtain ⟨h1, s1, s2, s3⟩ := tw_goesAll (m := 6) j.hU j.hL (by omega) w (Or.inr rfl) j.t
  rw [show (6 : Int32) = nI 6 from rfl, s1, Option.bind_some]
  have hc := cnt_few L 6 6 T
  have hl := cnt_lt L 6 6 w (by omega)
  have p : ∀ (s : St) (i : Nat) (v : Int32), pf s 0 i v = some (up2 s 0 i v) := fun _ _ _ => rfl
  cases q : few L 6 6 T with
  | some r =>
    rw [Option.isSome_some, if_pos rfl]
    refine ⟨h1, ?_, s2⟩
    apply iter_done
    dsimp only [un3]
    rw [T_0 s2, Option.bind_some]
    have : ¬ h1 0 11 = 0 := by
      rw [s3.1]
      refine nI_ne0 ?_ hl
      have : ¬ (goA L 6 6 T [] 0 (0, 0, none, none)).1 = 0 := fun x => by
        rw [hc.mp x] at q
        cases q
      omega
    rw [if_neg this]
    split <;> rfl
  | none =>
    rw [Option.isSome_none, if_neg (by decide)]
    have z11 : h1 0 11 = 0 := by rw [s3.1, hc.mpr q]; rfl
    obtain ⟨t, e1, e2⟩ := iter_inv (body := un3 fun s2a s2b s2c =>
    (rd (s2a 1) 340 (0 : Int32)).bind fun x4 =>
    if x4 ≤ s2c then
      some (.inr (s2b, s2a))
    else
      if (s2a 0 11) = 0 then
        (pf s2a 0 4 s2c).bind fun g6 =>
        (tF_goesAll g6 (nI 6)).bind fun g7 =>
        Option.bind (α := Int32) (β := ((St × Int32 × Int32) ⊕ (Int32 × St)))
          (if (g7 0 11) ≤ 0 then
            some (0 : Int32)
          else
            some ((1 : Int32) <<< (s2c &&& 31)))
          (fun j8 => (pf g7 0 4 (-1 : Int32)).bind fun g10 =>
          (pf g10 0 11 (0 : Int32)).bind fun g11 =>
          some (.inl (g11, (s2b ||| j8), (s2c + (1 : Int32)))))
      else
        some (.inr (s2b, s2a))) (fun i s => ∃ h2, s = (h2, nI (baS L T i), nI i) ∧ TR h0 h2 T z U 6 ∧ h2 0 11 = 0) (fun t => ∃ h2, t = (nI (baS L T (T 0)), h2) ∧ TR h0 h2 T z U 6) (T 0)
      (by
        rintro i hi s ⟨h2, rfl, k2, z2⟩
        have k3 := k2.puta (v := nI i) i (by unfold abI; rw [if_pos (by omega)])
        dsimp only [un3]
        rw [T_0 k2, Option.bind_some, if_neg (nI_ge hi (by omega)), if_pos z2, p, Option.bind_some]
        obtain ⟨h3, a1, a2, a3⟩ := tw_goesAll (m := 6) j.hU j.hL (by omega) w (Or.inl hi) k3
        rw [a1, Option.bind_some, a3.1, nI_bit i (by omega)]
        have hc2 := cnt_few L i 6 T
        have hl2 := cnt_lt L i 6 w (by omega)
        have hb : (if nI (goA L i 6 T [] 0 (0, 0, none, none)).1 ≤ 0 then some (0 : Int32) else some (nI (2 ^ i))) = some (nI (if (few L i 6 T).isSome = true then 2 ^ i else 0)) := by
          rw [il0 hl2]
          cases qq : few L i 6 T with
          | none =>
            rw [if_pos (by rw [hc2.mpr qq]; omega)]
            rfl
          | some r =>
            rw [if_neg]
            · rfl
            · intro x
              have : (goA L i 6 T [] 0 (0, 0, none, none)).1 = 0 := by omega
              rw [hc2.mp this] at qq
              cases qq
        rw [hb, Option.bind_some, p, Option.bind_some, p, Option.bind_some, nI_or, nI_1]
        exact ⟨_, rfl, _, rfl, (a2.puta 6 rfl).scr (b := 0) (i := 11) 0 rfl, up2_s⟩)
      (by
        rintro s ⟨h2, rfl, k2, z2⟩
        refine ⟨(nI (baS L T (T 0)), h2), ?_, h2, rfl, k2⟩
        dsimp only [un3]
        rw [T_0 k2, Option.bind_some, if_pos (nI_le (Nat.le_refl _) (by omega))]) (T 0) 0 (h1, 0, 0) (by omega) ⟨h1, rfl, s2, z11⟩
    obtain ⟨h2, rfl, k2⟩ := e2
    exact ⟨h2, e1, k2⟩
theorem pb_bars (j : JT E L U en g0 h0 T z g h) : Pb E L U en g0 h0 (kF_bars E g) (tF_bars h) := by
  obtain ⟨g', a1, a2⟩ := kw_bars j
  obtain ⟨h', b1, b2⟩ := tw_bars j
  exact Pb.to j a1 b1 a2 b2
/-- the most that can be whole -/
def mw (L : RLt) (T : Tn) : Nat := (goA L 6 6 T [] 0 (0, 0, none, none)).2.1
def jrS (L : RLt) (T : Tn) : Nat → Nat × Int32
  | 0 => (mw L T, -3)
  | t + 1 => if (jrS L T t).1 < mw L (tup T (14 + t) (T (14 + t) + 1)) then (mw L (tup T (14 + t) (T (14 + t) + 1)), nI t) else jrS L T t
theorem tup_back {T : Tn} {i v : Nat} : tup (tup T i v) i (T i) = T := by
  funext m
  unfold tup
  by_cases q : m = i
  · rw [if_pos q, q]
  · rw [if_neg q, if_neg q]
theorem pb_jars (j : JT E L U en g0 h0 T z g h) : Pb E L U en g0 h0 (kF_jars E g) (tF_jars h) := by
  have w := j.w
  obtain ⟨g1, r1, r2, r3⟩ := kw_findRows (m := 6) j.hL (by omega) w j.hE j.k
  obtain ⟨h1, s1, s2, s3⟩ := tw_goesAll (m := 6) j.hU j.hL (by omega) w (Or.inr rfl) j.t
  have six : ∀ t, t ≤ 8 → (jrS L T t).1 ≤ 6 := by
    intro t
    induction t with
    | zero => intro _; exact r3.2.2.1
    | succ t ih =>
      intro ht
      unfold jrS
      split
      · have wt : WF (tup T (14 + t) (T (14 + t) + 1)) := w.set (by have := j.j9 t (by omega); omega)
        have kt := j.k.put (14 + t) (T (14 + t) + 1) (b := 51) (j := t) (by omega) (by omega) (by omega) (km_ja t (by omega))
        obtain ⟨_, _, _, q⟩ := kw_findRows (m := 6) j.hL (by omega) wt (j.hE.set w (by omega) (fun p hp => by omega)) kt
        exact q.2.2.1
      · exact ih (by omega)
  obtain ⟨t, e1, e2⟩ := iter_inv (body := un4 fun s2a s2b s2c s2d =>
    if (8 : Int32) ≤ s2d then
      some (.inr (s2c, s2a))
    else
      (rd (s2a 51) 8 s2d).bind fun x5 =>
      (wr s2a 51 8 s2d (x5 + (1 : Int32))).bind fun g6 =>
      (kF_findRows E g6 (6 : Int32)).bind fun g7 =>
      (rd (g7 51) 8 s2d).bind fun x8 =>
      (wr g7 51 8 s2d (x8 - (1 : Int32))).bind fun g9 =>
      if s2b < (g9 0 20) then
        some (.inl (g9, (g9 0 20), s2d, (s2d + (1 : Int32))))
      else
        some (.inl (g9, s2b, s2c, (s2d + (1 : Int32))))) (fun i s => ∃ g', s = (g', nI (jrS L T i).1, (jrS L T i).2, nI i) ∧ KR g0 g' T z 6) (fun t => ∃ g', t = ((jrS L T 8).2, g') ∧ KR g0 g' T z 6) 8
    (by
      rintro i hi s ⟨g2, rfl, k2⟩
      dsimp only [un4]
      have hj9 := j.j9 i hi
      have wt : WF (tup T (14 + i) (T (14 + i) + 1)) := w.set (by omega)
      obtain ⟨g3, b1, b2, -⟩ := k2.wrT (14 + i) (T (14 + i) + 1) (n := 8) (by omega) (by omega) (by omega) (km_ja i hi) hi (by decide)
      obtain ⟨g4, c1, c2, c3⟩ := kw_findRows (m := 6) j.hL (by omega) wt (j.hE.set w (by omega) (fun p hp => by omega)) b2
      have rj := K_ja c2 hi
      rw [tup_s] at rj
      obtain ⟨g5, d1, d2, d3⟩ := c2.wrT (14 + i) (T (14 + i)) (n := 8) (by omega) (by omega) (by omega) (km_ja i hi) hi (by decide)
      have d2' := d2.to tup_back
      have e20 : g5 0 20 = nI (mw L (tup T (14 + i) (T (14 + i) + 1))) := by
        rw [d3, up2_o (by decide)]
        exact c3.2.1
      have h6 := six i (by omega)
      have h7 : mw L (tup T (14 + i) (T (14 + i) + 1)) ≤ 6 := c3.2.2.1
      rw [show (8 : Int32) = nI 8 from rfl, if_neg (nI_ge hi (by omega)), K_ja k2 hi, Option.bind_some, nI_1, b1, Option.bind_some, show (6 : Int32) = nI 6 from rfl, c1, Option.bind_some, rj, Option.bind_some, nI_pred, d1, Option.bind_some, e20, it (by omega) (by omega), nI_1]
      show ∃ s', _ ∧ ∃ g', s' = (g', nI (if (jrS L T i).1 < mw L (tup T (14 + i) (T (14 + i) + 1)) then (mw L (tup T (14 + i) (T (14 + i) + 1)), nI i) else jrS L T i).1, (if (jrS L T i).1 < mw L (tup T (14 + i) (T (14 + i) + 1)) then (mw L (tup T (14 + i) (T (14 + i) + 1)), nI i) else jrS L T i).2, nI (i + 1)) ∧ KR g0 g' T z 6
      by_cases q : (jrS L T i).1 < mw L (tup T (14 + i) (T (14 + i) + 1))
      · rw [if_pos q, if_pos q]
        exact ⟨_, rfl, g5, rfl, d2'⟩
      · rw [if_neg q, if_neg q]
        exact ⟨_, rfl, g5, rfl, d2'⟩)
    (by
      rintro s ⟨g2, rfl, k2⟩
      exact ⟨_, rfl, g2, rfl, k2⟩) 8 0 (g1, nI (jrS L T 0).1, (-3 : Int32), (0 : Int32)) (by omega) ⟨g1, rfl, r2⟩
  obtain ⟨t', f1, f2⟩ := iter_inv (body := un4 fun s2a s2b s2c s2d =>
    if (8 : Int32) ≤ s2d then
      some (.inr (s2c, s2a))
    else
      (rd (s2a 1) 340 ((14 : Int32) + s2d)).bind fun x5 =>
      (wr s2a 1 340 ((14 : Int32) + s2d) (x5 + (1 : Int32))).bind fun g6 =>
      (tF_goesAll g6 (6 : Int32)).bind fun g7 =>
      (rd (g7 1) 340 ((14 : Int32) + s2d)).bind fun x8 =>
      (wr g7 1 340 ((14 : Int32) + s2d) (x8 - (1 : Int32))).bind fun g9 =>
      Option.bind (α := Int32) (β := ((St × Int32 × Int32 × Int32) ⊕ (Int32 × St)))
        (if (g9 0 12) ≤ s2b then
          some s2c
        else
          some s2d)
        (fun j10 => if (g9 0 12) ≤ s2b then
          some (.inl (g9, s2b, j10, (s2d + (1 : Int32))))
        else
          some (.inl (g9, (g9 0 12), j10, (s2d + (1 : Int32)))))) (fun i s => ∃ g', s = (g', nI (jrS L T i).1, (jrS L T i).2, nI i) ∧ TR h0 g' T z U 6) (fun t => ∃ g', t = ((jrS L T 8).2, g') ∧ TR h0 g' T z U 6) 8
    (by
      rintro i hi s ⟨g2, rfl, k2⟩
      dsimp only [un4]
      have hj9 := j.j9 i hi
      have wt : WF (tup T (14 + i) (T (14 + i) + 1)) := w.set (by omega)
      obtain ⟨g3, b1, b2, -⟩ := k2.wrT (14 + i) (T (14 + i) + 1) (add14 i) (by omega) (by omega) (by omega)
      obtain ⟨g4, c1, c2, c3⟩ := tw_goesAll (m := 6) j.hU j.hL (by omega) wt (Or.inr rfl) b2
      have rj := T_ja c2 hi
      rw [tup_s] at rj
      obtain ⟨g5, d1, d2, d3⟩ := c2.wrT (14 + i) (T (14 + i)) (add14 i) (by omega) (by omega) (by omega)
      have d2' := d2.to tup_back
      have e20 : g5 0 12 = nI (mw L (tup T (14 + i) (T (14 + i) + 1))) := by
        rw [d3, up2_o (by decide)]
        exact c3.2.1
      have h6 := six i (by omega)
      have h7 : mw L (tup T (14 + i) (T (14 + i) + 1)) ≤ 6 := c3.2.2.1
      rw [show (8 : Int32) = nI 8 from rfl, if_neg (nI_ge hi (by omega)), T_ja k2 hi, Option.bind_some, nI_1, b1, Option.bind_some, show (6 : Int32) = nI 6 from rfl, c1, Option.bind_some, rj, Option.bind_some, nI_pred, d1, Option.bind_some, e20, il (by omega) (by omega), nI_1]
      show ∃ s', _ ∧ ∃ g', s' = (g', nI (if (jrS L T i).1 < mw L (tup T (14 + i) (T (14 + i) + 1)) then (mw L (tup T (14 + i) (T (14 + i) + 1)), nI i) else jrS L T i).1, (if (jrS L T i).1 < mw L (tup T (14 + i) (T (14 + i) + 1)) then (mw L (tup T (14 + i) (T (14 + i) + 1)), nI i) else jrS L T i).2, nI (i + 1)) ∧ TR h0 g' T z U 6
      by_cases q : (jrS L T i).1 < mw L (tup T (14 + i) (T (14 + i) + 1))
      · rw [if_pos q, if_neg (by omega), Option.bind_some, il (by omega) (by omega), if_neg (by omega)]
        exact ⟨_, rfl, g5, rfl, d2'⟩
      · rw [if_neg q, if_pos (by omega), Option.bind_some, il (by omega) (by omega), if_pos (by omega)]
        exact ⟨_, rfl, g5, rfl, d2'⟩)
    (by
      rintro s ⟨g2, rfl, k2⟩
      exact ⟨_, rfl, g2, rfl, k2⟩) 8 0 (h1, nI (jrS L T 0).1, (-3 : Int32), (0 : Int32)) (by omega) ⟨h1, rfl, s2⟩
  obtain ⟨g', rfl, k'⟩ := e2
  obtain ⟨h', rfl, t'⟩ := f2
  refine Pb.to j (r := (jrS L T 8).2) ?_ ?_ k' t'
  · unfold kF_jars
    rw [show kF_findRows E g 6 = some g1 from r1, Option.bind_some, show g1 0 20 = nI (jrS L T 0).1 from r3.2.1]
    exact e1
  · unfold tF_jars
    rw [show tF_goesAll h 6 = some h1 from s1, Option.bind_some, show h1 0 12 = nI (jrS L T 0).1 from s3.2.1]
    exact f1
end PBR
