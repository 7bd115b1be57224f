/-! the dearest that one comes to -/
set_option maxRecDepth 100000
def dI32 (o : Option Nat) : Int32 := match o with
  | none => -1
  | some b => nI b
def deS (T : Tn) (S : Nat) : Nat → Option Nat
  | 0 => none
  | t + 1 => if ((nI S >>> (nI t &&& 31)) &&& (1 : Int32)) = 1 then (match deS T S t with
    | none => some t
    | some b => if T (6 + t) ≤ T (6 + b) then some b else some t) else deS T S t
theorem deS_lt (T : Tn) (S : Nat) : ∀ t b, deS T S t = some b → b < t
  | 0, b, h => by cases h
  | t + 1, b, h => by
    have ih := deS_lt T S t
    unfold deS at h
    split at h
    · split at h
      · cases h
        omega
      · next c hc =>
        have := ih c hc
        split at h
        · cases h
          omega
        · cases h
          omega
    · have := ih b h
      omega
section DEA
variable {E : EE} {L : RLt} {U : Nat → Int32} {en : Nat → Nat} {g0 h0 : St} {z : Int32}
theorem kw_dear {T : Tn} {g : St} (k : KR g0 g T z 6) (w : WF T) (S : Nat) : iter (L := Int32 × Int32) (T := Int32 × St) (un2 fun s5a s5b =>
        if (8 : Int32) ≤ s5b then
          some (.inr (s5a, g))
        else
          Option.bind (α := Int32) (β := ((Int32 × Int32) ⊕ (Int32 × St)))
            (if ((nI S >>> (s5b &&& 31)) &&& (1 : Int32)) = (1 : Int32) then
              some (1 : Int32)
            else
              some (0 : Int32))
            (fun j8 => if j8 = 0 then
              some (.inl (s5a, (s5b + (1 : Int32))))
            else
              if s5a < 0 then
                some (.inl (s5b, (s5b + (1 : Int32))))
              else
                (rd (g 50) 8 s5b).bind fun x10 =>
                (rd (g 50) 8 s5a).bind fun x11 =>
                if x10 ≤ x11 then
                  some (.inl (s5a, (s5b + (1 : Int32))))
                else
                  some (.inl (s5b, (s5b + (1 : Int32)))))) ((-1 : Int32), (0 : Int32)) = some (dI32 (deS T S 8), g) := by
  obtain ⟨t, e1, e2⟩ := iter_inv (body := un2 fun s5a s5b =>
        if (8 : Int32) ≤ s5b then
          some (.inr (s5a, g))
        else
          Option.bind (α := Int32) (β := ((Int32 × Int32) ⊕ (Int32 × St)))
            (if ((nI S >>> (s5b &&& 31)) &&& (1 : Int32)) = (1 : Int32) then
              some (1 : Int32)
            else
              some (0 : Int32))
            (fun j8 => if j8 = 0 then
              some (.inl (s5a, (s5b + (1 : Int32))))
            else
              if s5a < 0 then
                some (.inl (s5b, (s5b + (1 : Int32))))
              else
                (rd (g 50) 8 s5b).bind fun x10 =>
                (rd (g 50) 8 s5a).bind fun x11 =>
                if x10 ≤ x11 then
                  some (.inl (s5a, (s5b + (1 : Int32))))
                else
                  some (.inl (s5b, (s5b + (1 : Int32)))))) (fun i s => s = (dI32 (deS T S i), nI i)) (fun t => t = (dI32 (deS T S 8), g)) 8
    (by
      rintro i hi s rfl
      dsimp only [un2]
      rw [if_neg (show ¬ (8 : Int32) ≤ nI i from nI_ge (b := 8) hi (by omega)), nI_1]
      show ∃ s', _ ∧ s' = (dI32 (if ((nI S >>> (nI i &&& 31)) &&& (1 : Int32)) = 1 then (match deS T S i with
        | none => some i
        | some b => if T (6 + i) ≤ T (6 + b) then some b else some i) else deS T S i), nI (i + 1))
      by_cases c : ((nI S >>> (nI i &&& 31)) &&& (1 : Int32)) = 1
      · rw [if_pos c, if_pos c, Option.bind_some, if_neg c10]
        cases q : deS T S i with
        | none => exact ⟨_, if_pos (by decide), rfl⟩
        | some b =>
          have hb := deS_lt T S i b q
          have w1 := w.wo (i := i) (by omega)
          have w2 := w.wo (i := b) (by omega)
          show ∃ s', (if nI b < 0 then _ else _) = _ ∧ _
          rw [if_neg (nI_pos (by omega)), K_wo k (by omega), Option.bind_some]
          show ∃ s', ((rd (g 50) 8 (nI b)).bind _) = _ ∧ _
          rw [K_wo k (by omega), Option.bind_some, il (by omega) (by omega)]
          by_cases x : T (6 + i) ≤ T (6 + b)
          · rw [if_pos x]
            exact ⟨_, rfl, by dsimp only; rw [if_pos x]⟩
          · rw [if_neg x]
            exact ⟨_, rfl, by dsimp only; rw [if_neg x]; rfl⟩
      · rw [if_neg c, if_neg c, Option.bind_some, if_pos rfl]
        exact ⟨_, rfl, rfl⟩)
    (by
      rintro s rfl
      exact ⟨_, rfl, rfl⟩) 8 0 ((-1 : Int32), (0 : Int32)) (by omega) rfl
  rw [e1, e2]
theorem tw_dear {T : Tn} {h : St} (k : TR h0 h T z U 6) (w : WF T) {S : Nat} (hS : h 0 19 = nI S) : iter (L := Int32 × Int32) (T := Int32 × St) (un2 fun s5a s5b =>
      if (8 : Int32) ≤ s5b then
        some (.inr (s5a, h))
      else
        if (((h 0 19) >>> (s5b &&& 31)) &&& (1 : Int32)) = (1 : Int32) then
          if s5a < 0 then
            some (.inl (s5b, (s5b + (1 : Int32))))
          else
            (rd (h 1) 340 ((6 : Int32) + s5b)).bind fun x8 =>
            (rd (h 1) 340 ((6 : Int32) + s5a)).bind fun x9 =>
            if x8 ≤ x9 then
              some (.inl (s5a, (s5b + (1 : Int32))))
            else
              some (.inl (s5b, (s5b + (1 : Int32))))
        else
          some (.inl (s5a, (s5b + (1 : Int32))))) ((-1 : Int32), (0 : Int32)) = some (dI32 (deS T S 8), h) := by
  rw [hS]
  obtain ⟨t, e1, e2⟩ := iter_inv (body := un2 fun s5a s5b =>
      if (8 : Int32) ≤ s5b then
        some (.inr (s5a, h))
      else
        if ((nI S >>> (s5b &&& 31)) &&& (1 : Int32)) = (1 : Int32) then
          if s5a < 0 then
            some (.inl (s5b, (s5b + (1 : Int32))))
          else
            (rd (h 1) 340 ((6 : Int32) + s5b)).bind fun x8 =>
            (rd (h 1) 340 ((6 : Int32) + s5a)).bind fun x9 =>
            if x8 ≤ x9 then
              some (.inl (s5a, (s5b + (1 : Int32))))
            else
              some (.inl (s5b, (s5b + (1 : Int32))))
        else
          some (.inl (s5a, (s5b + (1 : Int32))))) (fun i s => s = (dI32 (deS T S i), nI i)) (fun t => t = (dI32 (deS T S 8), h)) 8
    (by
      rintro i hi s rfl
      dsimp only [un2]
      rw [if_neg (show ¬ (8 : Int32) ≤ nI i from nI_ge (b := 8) hi (by omega)), nI_1]
      show ∃ s', _ ∧ s' = (dI32 (if ((nI S >>> (nI i &&& 31)) &&& (1 : Int32)) = 1 then (match deS T S i with
        | none => some i
        | some b => if T (6 + i) ≤ T (6 + b) then some b else some i) else deS T S i), nI (i + 1))
      by_cases c : ((nI S >>> (nI i &&& 31)) &&& (1 : Int32)) = 1
      · rw [if_pos c, if_pos c]
        cases q : deS T S i with
        | none => exact ⟨_, if_pos (by decide), rfl⟩
        | some b =>
          have hb := deS_lt T S i b q
          have w1 := w.wo (i := i) (by omega)
          have w2 := w.wo (i := b) (by omega)
          show ∃ s', (if nI b < 0 then _ else _) = _ ∧ _
          rw [if_neg (nI_pos (by omega)), T_wo k (by omega), Option.bind_some]
          show ∃ s', ((rd (h 1) 340 ((6 : Int32) + nI b)).bind _) = _ ∧ _
          rw [T_wo k (by omega), Option.bind_some, il (by omega) (by omega)]
          by_cases x : T (6 + i) ≤ T (6 + b)
          · rw [if_pos x]
            exact ⟨_, rfl, by dsimp only; rw [if_pos x]⟩
          · rw [if_neg x]
            exact ⟨_, rfl, by dsimp only; rw [if_neg x]; rfl⟩
      · rw [if_neg c, if_neg c]
        exact ⟨_, rfl, rfl⟩)
    (by
      rintro s rfl
      exact ⟨_, rfl, rfl⟩) 8 0 ((-1 : Int32), (0 : Int32)) (by omega) rfl
  rw [e1, e2]
theorem pb_dearest {T : Tn} {g h : St} (j : JT E L U en g0 h0 T z g h) (a1 a2 : Int32) : Pb E L U en g0 h0 (kF_dearest E g a1 a2) (tF_dearest h a1 a2) := by
  unfold kF_dearest tF_dearest
  rw [kw_isPersonX j.k, Option.bind_some]
  rcases tw_isBarter j.t j.w a1 a2 with ⟨q, q1⟩ | ⟨p, n, hp, hn, rfl, rfl, q, q1, q2⟩
  · rw [q, Option.bind_some, if_pos rfl]
    refine Pb.same (r := -1) j ?_ rfl
    rcases q1 with e | e
    · rw [e, if_pos rfl]
    · rw [e]
      split <;> rfl
  · rw [q, Option.bind_some, q1, q2, if_neg c10, if_neg c10, if_neg c10]
    obtain ⟨g', a1, a2⟩ := kw_reachOf (E := E) j.k j.w (j.w.p6 hp) hn
    have pf1 : ∀ (s : St) (v : Int32), pf s 0 19 v = some (up2 s 0 19 v) := fun _ _ => rfl
    obtain ⟨h', b1, b2, b3⟩ := tw_barters 6 n T p 0 _ (by omega) (by omega) j.w (j.w.p6 hp) (j.t.scr (b := 0) (i := 19) 0 rfl) up2_s
    rw [a1, pf1, Option.bind_some, Option.bind_some, b1, Option.bind_some]
    exact Pb.to j (kw_dear a2 j.w _) (tw_dear b2 j.w b3) a2 b2
end DEA
