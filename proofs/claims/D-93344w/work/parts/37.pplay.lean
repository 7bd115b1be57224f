/-! which change to play; by lot -/
set_option maxRecDepth 100000
theorem nx_le {P : Nat → Bool} : ∀ {k c c' : Nat}, c ≤ c' → P c' = true → nx P k c ≤ c'
  | 0, c, c', h, _ => h
  | k + 1, c, c', h, hp => by
    rw [nx_s]
    split
    · exact h
    · next q =>
      have : c ≠ c' := fun e => q (by rw [e]; exact hp)
      exact nx_le (by omega) hp
theorem fo_hit {P : Nat → Bool} {F : Nat → Nat} : ∀ k c b, vlu (fo P (fun c b => if b = 0 then (.inr () : Nat ⊕ Unit) else .inl (upb b (F c))) k c b) = b ∨ ∃ c', c ≤ c' ∧ c' < c + k ∧ P c' = true ∧ trn (F c') = vlu (fo P (fun c b => if b = 0 then (.inr () : Nat ⊕ Unit) else .inl (upb b (F c))) k c b)
  | 0, _, _ => Or.inl rfl
  | k + 1, c, b => by
    rw [fo_s]
    by_cases p : P c = true
    · rw [if_pos p]
      by_cases e : b = 0
      · rw [if_pos e]
        exact Or.inl e.symm
      · rw [if_neg e]
        show vlu (fo P _ k (c + 1) (upb b (F c))) = b ∨ ∃ c', c ≤ c' ∧ c' < c + (k + 1) ∧ P c' = true ∧ trn (F c') = vlu (fo P _ k (c + 1) (upb b (F c)))
        rcases fo_hit (P := P) (F := F) k (c + 1) (upb b (F c)) with h | ⟨c', h1, h2, h3, h4⟩
        · rw [h]
          unfold upb
          by_cases u1 : F c = 1
          · right
            refine ⟨c, by omega, by omega, p, ?_⟩
            rw [if_pos u1, u1]
            rfl
          · rw [if_neg u1]
            by_cases u2 : F c = 2
            · right
              refine ⟨c, by omega, by omega, p, ?_⟩
              rw [if_pos u2, u2]
              rfl
            · rw [if_neg u2]
              exact Or.inl rfl
        · exact Or.inr ⟨c', by omega, by omega, h3, h4⟩
    · rw [if_neg p]
      rcases fo_hit (P := P) (F := F) k (c + 1) b with h | ⟨c', h1, h2, h3, h4⟩
      · exact Or.inl h
      · exact Or.inr ⟨c', by omega, by omega, h3, h4⟩
theorem fo_n1 {P : Nat → Bool} {F : Nat → Nat} : ∀ k c b, b ≠ 1 → vlu (fo P (fun c b => if b = 0 then (.inr () : Nat ⊕ Unit) else .inl (upb b (F c))) k c b) ≠ 1
  | 0, _, b, h => h
  | k + 1, c, b, h => by
    rw [fo_s]
    by_cases p : P c = true
    · rw [if_pos p]
      by_cases e : b = 0
      · rw [if_pos e]
        show (0 : Nat) ≠ 1
        omega
      · rw [if_neg e]
        refine fo_n1 k (c + 1) (upb b (F c)) ?_
        unfold upb
        split
        · omega
        · split <;> omega
    · rw [if_neg p]
      exact fo_n1 k (c + 1) b h
theorem fo_all {P : Nat → Bool} {F : Nat → Nat} : ∀ k c, vlu (fo P (fun c b => if b = 0 then (.inr () : Nat ⊕ Unit) else .inl (upb b (F c))) k c 1) = 1 → ∀ c', c ≤ c' → c' < c + k → P c' = true → F c' ≠ 1 ∧ F c' ≠ 2
  | 0, _, _, c', h1, h2, _ => by omega
  | k + 1, c, h, c', h1, h2, h3 => by
    rw [fo_s] at h
    by_cases p : P c = true
    · rw [if_pos p, if_neg (by decide)] at h
      have h' : vlu (fo P (fun c b => if b = 0 then (.inr () : Nat ⊕ Unit) else .inl (upb b (F c))) k (c + 1) (upb 1 (F c))) = 1 := h
      have e : upb 1 (F c) = 1 := by
        by_cases q : upb 1 (F c) = 1
        · exact q
        · exact absurd h' (fo_n1 k (c + 1) _ q)
      have u : F c ≠ 1 ∧ F c ≠ 2 := by
        unfold upb at e
        split at e
        · omega
        · split at e <;> omega
      by_cases ec : c' = c
      · subst ec
        exact u
      · rw [e] at h'
        exact fo_all k (c + 1) h' c' (by omega) (by omega) h3
    · rw [if_neg p] at h
      have ec : c' ≠ c := fun e => p (by rw [← e]; exact h3)
      exact fo_all k (c + 1) h c' (by omega) (by omega) h3
section PPL
variable {g0 h0 : St} {z : Int32} {E : EE} {L : RLt} {U : Nat → Int32} {en : Nat → Nat} {T : Tn} {g h : St}
theorem hit_ex {l : Nat} (hx : nx (okC L T 6) 60 0 < 60) : ∃ c, c < 60 ∧ okC L T 6 c = true ∧ trn (gv L 6 l (doT L T 6 c)) = gv L 6 (l + 1) T := by
  have h0 := nx_P (okC L T 6) 60 0 (by omega)
  rcases fo_hit (P := okC L T 6) (F := fun c => gv L 6 l (doT L T 6 c)) 60 0 1 with h | ⟨c', h1, h2, h3, h4⟩
  · have := fo_all (P := okC L T 6) (F := fun c => gv L 6 l (doT L T 6 c)) 60 0 h (nx (okC L T 6) 60 0) (by omega) (by omega) h0
    have hu := gv_le (L := L) (ab := 6) l (doT L T 6 (nx (okC L T 6) 60 0))
    refine ⟨nx (okC L T 6) 60 0, hx, h0, ?_⟩
    have e : gv L 6 (l + 1) T = 1 := h
    rw [e]
    have z : gv L 6 l (doT L T 6 (nx (okC L T 6) 60 0)) = 0 := by omega
    rw [z]
    rfl
  · exact ⟨c', by omega, h3, h4⟩
theorem pb_play (j : JT E L U en g0 h0 T z g h) (a1 : Int32) : Pb E L U en g0 h0 (kF_play E g a1) (tF_play h a1) := by
  have w := j.w
  unfold kF_play tF_play tF_isGame
  rw [show tF_in a1.toInt64 (1 : Int64) (6 : Int64) = kF_isIn a1 1 6 from tin a1 1 6]
  rcases isJ_c a1 (a := 1) (m := 6) (A := 1) (M := 6) rfl rfl (by omega) (by omega) with q | ⟨m, h1, h2, rfl, q⟩
  · rw [q, if_pos rfl, if_pos rfl]
    exact Pb.same j rfl rfl
  rw [q, if_neg c10, if_neg c10]
  obtain ⟨l, rfl⟩ : ∃ l, m = l + 1 := ⟨m - 1, by omega⟩
  obtain ⟨g1, a1, a2, -⟩ := kw_cans (x := -1) j.k w (by omega) j.hE j.hL m1_0 (by decide) (by decide) (by omega)
  obtain ⟨h1', b1, b2⟩ := tw_valueOf j.hU j.hL 8 (l + 1) T h (by omega) (by omega) w j.t
  obtain ⟨h2', c1, c2, -⟩ := tw_next0 b2 w (by omega) j.hU j.hL
  rw [a1, b1, Option.bind_some, Option.bind_some]
  dsimp only [un2]
  rw [c1, Option.bind_some]
  have hu := gv_le (L := L) (ab := 6) (l + 1) T
  have hwv : wv 0 (gv L 6 (l + 1) T) = gv L 6 (l + 1) T := by
    generalize gv L 6 (l + 1) T = u at hu
    match u, hu with
    | 0, _ => rfl
    | 1, _ => rfl
    | 2, _ => rfl
  have hcmp : ∀ {α : Type} (c : Nat) (x y : α), (if nI (trn (gv L 6 l (doT L T 6 c))) = nI (gv L 6 (l + 1) T) then x else y) = if trn (gv L 6 l (doT L T 6 c)) = gv L 6 (l + 1) T then x else y := by
    intro α c x y
    have hv := gv_le (L := L) (ab := 6) l (doT L T 6 c)
    have ht : trn (gv L 6 l (doT L T 6 c)) ≤ 2 := by
      unfold trn
      split <;> omega
    exact ie (by omega) (by omega) x y
  -- the reference's loop
  obtain ⟨t, e1, e2⟩ := iter_nx (body := un2 fun s4a s4b =>
      if s4b < 0 then
        some (.inr ((-3 : Int32), s4a))
      else
        (tF_valueBy (tF_valueOf 8) s4a s4b (nI (l + 1))).bind (un2 fun y7a y7b =>
        if y7a = nI (gv L 6 (l + 1) T) then
          some (.inr (s4b, y7b))
        else
          (tF_nextChange y7b s4b).bind (un2 fun y9a y9b =>
          some (.inl (y9b, y9a))))) (okC L T 6) (fun c (_ : Unit) => if (trn (gv L 6 l (doT L T 6 c)) == gv L 6 (l + 1) T) then (.inr c : Unit ⊕ Nat) else .inl ()) 60 (fun _ c s => ∃ h', s = (h', encM c) ∧ TR h0 h' T z U 6) (fun _ t => ∃ h', t = ((-3 : Int32), h') ∧ TR h0 h' T z U 6) (fun r t => ∃ h', t = (nI r, h') ∧ TR h0 h' T z U 6)
    (by
      rintro s c q hc hok ⟨s1, rfl, k1⟩
      dsimp only [un2]
      obtain ⟨s2, x1, x2⟩ := tw_valueBy (rc := tF_valueOf 8) j.hU j.hL (fun T h h1 h2 => tw_valueOf j.hU j.hL 8 l T h (by omega) (by omega) h1 h2) w k1 hok
      rw [encM_in hc, if_neg (nI_pos (by omega)), x1, Option.bind_some]
      dsimp only [un2]
      rw [hcmp]
      by_cases e : trn (gv L 6 l (doT L T 6 c)) = gv L 6 (l + 1) T
      · right
        exact ⟨c, _, by simp [e], by rw [if_pos e], s2, rfl, x2⟩
      · left
        obtain ⟨s3, y1, y2, -⟩ := tw_nextc x2 w (by omega) j.hU j.hL hc
        exact ⟨(), _, by simp [e], by rw [if_neg e, y1, Option.bind_some]; rfl, s3, rfl, y2⟩)
    (by
      rintro s q ⟨s1, rfl, k1⟩
      exact ⟨_, rfl, s1, rfl, k1⟩) 60 0 () (h2', encM (nx (okC L T 6) 60 0)) (by omega) ⟨h2', rfl, c2⟩
  rw [fo_fi] at e2
  by_cases hx : nx (okC L T 6) 60 0 < 60
  · obtain ⟨ch, hc1, hc2, hc3⟩ := hit_ex (l := l) hx
    have en1 : encN (nx (okC L T 6) 60 0) = nI (nx (okC L T 6) 60 0) := if_pos hx
    obtain ⟨g2, d1, d2⟩ := kw_worthOf (E := E) j.hL 8 (l + 1) 0 T g1 (by omega) (by omega) (by omega) w j.hE a2
    obtain ⟨g3, f1, f2, -⟩ := kw_cans (x := -1) d2 w (by omega) j.hE j.hL m1_0 (by decide) (by decide) (by omega)
    rw [hwv] at d1
    have e60 : encN (nx (okC L T 6) (60 - 0) 0) = nI (nx (okC L T 6) 60 0) := en1
    rw [e60, if_pos (nI_pos' (by omega)), show (0 : Int32) = nI 0 from rfl, d1, Option.bind_some]
    dsimp only [un2]
    rw [f1, Option.bind_some]
    obtain ⟨t', i1, i2⟩ := iter_nx (body := un2 fun s5a s5b =>
        (kF_valueOf (kF_worthOf E 8) E s5a (nI 0) s5b (nI (l + 1))).bind (un2 fun y7a y7b =>
        if y7a = nI (gv L 6 (l + 1) T) then
          some (.inr (s5b, y7b))
        else
          (kF_cans E y7b s5b).bind (un2 fun y9a y9b =>
          some (.inl (y9b, y9a))))) (okC L T 6) (fun c (_ : Unit) => if (trn (gv L 6 l (doT L T 6 c)) == gv L 6 (l + 1) T) then (.inr c : Unit ⊕ Nat) else .inl ()) 60 (fun _ c s => ∃ g', s = (g', encN c) ∧ c ≤ ch ∧ KR g0 g' T z 6) (fun _ _ => False) (fun r t => ∃ g', t = (nI r, g') ∧ KR g0 g' T z 6)
      (by
        rintro s c q hc hok ⟨s1, rfl, hle, k1⟩
        dsimp only [un2]
        obtain ⟨s2, x1, x2⟩ := kw_valueOf (rc := kF_worthOf E 8) j.hL (fun s T g h1 h2 h3 h4 => kw_worthOf (E := E) j.hL 8 l s T g (by omega) (by omega) h1 h2 h3 h4) (s := 0) (by omega) w j.hE k1 hok
        have hv := gv_le (L := L) (ab := 6) l (doT L T 6 c)
        have e1 : wv (1 - 0) (gv L 6 l (doT L T 6 c)) = trn (gv L 6 l (doT L T 6 c)) := by
          generalize gv L 6 l (doT L T 6 c) = u at hv
          match u, hv with
          | 0, _ => rfl
          | 1, _ => rfl
          | 2, _ => rfl
        have ec : encN c = nI c := if_pos hc
        rw [ec, x1, e1, Option.bind_some]
        dsimp only [un2]
        rw [hcmp]
        by_cases e : trn (gv L 6 l (doT L T 6 c)) = gv L 6 (l + 1) T
        · right
          exact ⟨c, _, by simp [e], by rw [if_pos e], s2, rfl, x2⟩
        · left
          obtain ⟨s3, y1, y2, -⟩ := kw_cans (x := nI c) x2 w (by omega) j.hE j.hL (nI_1 c) (by
            have := nI_toInt (n := c) (by omega)
            have i3 : (-1 : Int32).toInt = -1 := by decide
            rw [Int32.le_iff_toInt_le]
            omega) (nI_ge (a := c) (b := 60) hc (by omega)) (by omega)
          have hne : c ≠ ch := fun z => e (by rw [z]; exact hc3)
          exact ⟨(), _, by simp [e], by rw [if_neg e, y1, Option.bind_some]; rfl, s3, rfl, nx_le (by omega) hc2, y2⟩)
      (by
        rintro s q ⟨s1, rfl, hle, k1⟩
        omega) 60 0 () (g3, encN (nx (okC L T 6) 60 0)) (by omega) ⟨g3, rfl, nx_le (by omega) hc2, f2⟩
    rw [fo_fi] at i2
    cases qf : fi (fun c => okC L T 6 c && (trn (gv L 6 l (doT L T 6 c)) == gv L 6 (l + 1) T)) 60 0 with
    | none =>
      rw [qf] at i2
      exact i2.elim
    | some c =>
      rw [qf] at i2 e2
      obtain ⟨g', rfl, k'⟩ := i2
      obtain ⟨h', rfl, t'⟩ := e2
      exact Pb.to j i1 e1 k' t'
  · have e60 : encN (nx (okC L T 6) (60 - 0) 0) = -3 := if_neg hx
    rw [e60, if_neg (by decide)]
    have : fi (fun c => okC L T 6 c && (trn (gv L 6 l (doT L T 6 c)) == gv L 6 (l + 1) T)) 60 0 = none := by
      apply fi_none
      intro i _ hi
      have : okC L T 6 i = false := by
        cases q : okC L T 6 i with
        | false => rfl
        | true =>
          have := nx_le (k := 60) (c := 0) (by omega) q
          omega
      rw [this]
      rfl
    rw [this] at e2
    obtain ⟨h', rfl, t'⟩ := e2
    exact Pb.to j rfl e1 a2 t'
end PPL
