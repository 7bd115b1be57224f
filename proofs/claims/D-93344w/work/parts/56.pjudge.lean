/-! judge: the rows gone through -/
set_option maxRecDepth 100000
def jgO (L : RLt) (T : Tn) (x : Int32) : Bool := !decide (x < 0) && okC L T 6 x.toNatClampNeg
def jgT (f : Nat → Int32) (n k : Nat) (T : Tn) : Bool := decide (f (3 * k + 1) = nI (coS T (T 0))) && (decide (f (3 * k + 2) = nI (wS T 6 (T 0))) && (decide (k + 1 < n) || dn T 6))
def jgS (L : RLt) (f : Nat → Int32) (n : Nat) : Nat → Nat → Tn → Nat
  | 0, _, _ => 0
  | m + 1, k, T => if jgO L T (f (3 * k)) = true then (if jgT f n k (doT L T 6 (f (3 * k)).toNatClampNeg) = true then jgS L f n m (k + 1) (doT L T 6 (f (3 * k)).toNatClampNeg) else k + 1) else k + 1
theorem jgS_le {L : RLt} {f : Nat → Int32} {n : Nat} : ∀ m k T, jgS L f n m k T ≤ k + m
  | 0, k, T => by unfold jgS; omega
  | m + 1, k, T => by
    unfold jgS
    split
    · split
      · have := jgS_le (L := L) (f := f) (n := n) m (k + 1) (doT L T 6 (f (3 * k)).toNatClampNeg)
        omega
      · omega
    · omega
section JDG
variable {g g' h h' : St} {T Tk : Tn} {z zk : Int32} {U Uk : Nat → Int32} {E : EE} {L : RLt} {en : Nat → Nat} {g0 h0 : St}
theorem kw_isChangeN {x : Int32} (hx : x < 0) (g : St) : kF_isChange g x = some 0 := by
  unfold kF_isChange dv rm
  rw [if_neg (by decide), Option.bind_some, if_neg (by decide), Option.bind_some, if_pos hx]
theorem tw_isNumberN {x : Int32} (hx : x < 0) (h : St) : tF_isNumber h x = some 0 := by
  unfold tF_isNumber
  rw [if_pos hx]
theorem kw_judged {f : Nat → Int32} {n : Nat} (hL : LOK L) (n6 : n ≤ 6) {g1 : St} (k1 : KR g0 g1 T z 6) (w : WF T) (hE : ER E L T) (h28 : g1 0 28 = nI n) (hf : ∀ i, i < 3 * n → g1 28 i = f i) {res : Nat} (hr : jgS L f n n 0 T = res) : ∃ t, iter (L := St × Int32 × Int32) (T := ((St × Int32) ⊕ (((St × Int32) ⊕ (St × Int32))))) (un3 fun s11a s11b s11c =>
          if (s11a 0 28) ≤ s11c then
            some (.inr (.inr (.inr (s11a, s11b))))
          else
            (rd (s11a 28) 18 ((3 : Int32) * s11c)).bind fun x16 =>
            (kF_isChange s11a x16).bind fun x17 =>
            if x17 = 0 then
              some (.inr (.inr (.inr (s11a, (s11c + (1 : Int32))))))
            else
              (kF_can E s11a x16).bind (un2 fun y22a y22b =>
              if y22a = 0 then
                some (.inr (.inl (y22b, (s11c + (1 : Int32)))))
              else
                (kF_carry E y22b x16).bind (un2 fun y25a y25b =>
                if y25a < 0 then
                  some (.inr (.inr (.inr (y25b, (s11c + (1 : Int32))))))
                else
                  (rd (y25b 28) 18 (((3 : Int32) * s11c) + (1 : Int32))).bind fun x29 =>
                  (kF_X3_purse y25b).bind fun x30 =>
                  if x29 = x30 then
                    (rd (y25b 28) 18 (((3 : Int32) * s11c) + (2 : Int32))).bind fun x31 =>
                    (kF_X3_whole y25b).bind fun x32 =>
                    if x31 = x32 then
                      if (s11c + (1 : Int32)) < (y25b 0 28) then
                        some (.inl (y25b, (0 : Int32), (s11c + (1 : Int32))))
                      else
                        (kF_isDone y25b).bind fun x33 =>
                        if x33 = 0 then
                          some (.inl (y25b, (s11c + (1 : Int32)), (s11c + (1 : Int32))))
                        else
                          some (.inl (y25b, (0 : Int32), (s11c + (1 : Int32))))
                    else
                      some (.inr (.inr (.inl (y25b, (s11c + (1 : Int32))))))
                  else
                    some (.inr (.inr (.inr (y25b, (s11c + (1 : Int32))))))))) (g1, (0 : Int32), (0 : Int32)) = some t ∧ ∃ g' T', KR g0 g' T' z 6 ∧ (∀ b, 80 ≤ b → g' b = g1 b) ∧ (t = .inl (g', nI res) ∨ t = .inr (.inl (g', nI res)) ∨ t = .inr (.inr (g', nI res))) := by
  refine iter_inx (fun i s => ∃ g' v T', s = (g', v, nI i) ∧ KR g0 g' T' z 6 ∧ WF T' ∧ ER E L T' ∧ (∀ b, b ≠ 15 → b ≠ 46 → b ≠ 48 → b ≠ 51 → g' b = g1 b) ∧ (i < n → v = 0 ∧ jgS L f n (n - i) i T' = res) ∧ (i = n → v = nI res)) _ n ?_ ?_ n 0 (g1, (0 : Int32), (0 : Int32)) (by omega) ⟨g1, 0, T, rfl, k1, w, hE, fun _ _ _ _ _ => rfl, fun _ => ⟨rfl, hr⟩, fun e => by subst e; rw [← hr]; rfl⟩
  · rintro i hi s ⟨g2, v, T2, rfl, k2, w2, e2, f2, r2, -⟩
    obtain ⟨hv, r3⟩ := r2 hi
    clear r2
    subst hv
    have r2 := r3
    clear r3
    have q0 : g2 0 28 = nI n := by rw [f2 0 (by decide) (by decide) (by decide) (by decide)]; exact h28
    have q1 : g2 28 (3 * i) = f (3 * i) := by rw [f2 28 (by decide) (by decide) (by decide) (by decide)]; exact hf _ (by omega)
    rw [show n - i = (n - i - 1) + 1 by omega] at r2
    unfold jgS at r2
    dsimp only [un3]
    rw [if_neg (show ¬ g2 0 28 ≤ nI i by rw [q0]; exact nI_ge hi (by omega)), show (3 : Int32) = nI 3 from rfl, pk_mul, rd_n (by omega) (by decide), Option.bind_some, q1, nI_1]
    by_cases hx : f (3 * i) < 0
    · rw [kw_isChangeN hx, Option.bind_some, if_pos rfl]
      have : jgO L T2 (f (3 * i)) = false := by
        unfold jgO
        simp [hx]
      rw [this, if_neg (by decide)] at r2
      exact Or.inr ⟨_, rfl, g2, T2, k2, fun b hb => f2 b (by omega) (by omega) (by omega) (by omega), Or.inr (Or.inr (by rw [r2]))⟩
    · obtain ⟨c, hc, ec⟩ := nI_of hx
      have ecl : (f (3 * i)).toNatClampNeg = c := by rw [ec]; exact nI_clamp hc
      rw [ecl] at r2
      have jo : jgO L T2 (f (3 * i)) = okC L T2 6 c := by
        unfold jgO
        rw [ecl]
        simp [hx]
      rw [jo] at r2
      rw [ec, kw_isChange k2 w2 hc, Option.bind_some, iz]
      by_cases ch : chg T2 c = true
      rotate_left
      · have : okC L T2 6 c = false := by
          unfold okC
          simp [ch]
        rw [this, if_neg (by decide)] at r2
        rw [if_neg ch]
        exact Or.inr ⟨_, rfl, g2, T2, k2, fun b hb => f2 b (by omega) (by omega) (by omega) (by omega), Or.inr (Or.inr (by rw [r2]))⟩
      rw [if_pos ch]
      obtain ⟨g3, a1, a2, a3⟩ := kw_can k2 w2 (by omega) e2 hL ch
      rw [a1, Option.bind_some]
      dsimp only [un2]
      rw [iz]
      by_cases cn : can L T2 6 c = true
      rotate_left
      · have : okC L T2 6 c = false := by
          unfold okC
          simp [cn]
        rw [this, if_neg (by decide)] at r2
        rw [if_neg cn]
        exact Or.inr ⟨_, rfl, g3, T2, a2, fun b hb => by rw [a3 b (by omega)]; exact f2 b (by omega) (by omega) (by omega) (by omega), Or.inl (by rw [r2])⟩
      have okc : okC L T2 6 c = true := by
        unfold okC
        rw [ch, cn]
        rfl
      rw [if_pos cn]
      rw [okc, if_pos rfl] at r2
      have hcs := cst_le (ab := 6) w2 hL ch
      obtain ⟨g4, b1, b2, b3⟩ := kw_carry a2 w2 (by omega) e2 hL okc
      have w4 := do_WF w2 okc
      have e4 := do_ER w2 e2 okc
      have f4 : ∀ b, b ≠ 15 → b ≠ 46 → b ≠ 48 → b ≠ 51 → g4 b = g1 b := fun b n1 n2 n3 n4 => by rw [b3 b n1 n2 n3 n4, a3 b n1]; exact f2 b n1 n2 n3 n4
      have q4 : g4 0 28 = nI n := by rw [f4 0 (by decide) (by decide) (by decide) (by decide)]; exact h28
      have q5 : g4 28 (3 * i + 1) = f (3 * i + 1) := by rw [f4 28 (by decide) (by decide) (by decide) (by decide)]; exact hf _ (by omega)
      have q6 : g4 28 (3 * i + 2) = f (3 * i + 2) := by rw [f4 28 (by decide) (by decide) (by decide) (by decide)]; exact hf _ (by omega)
      rw [b1, Option.bind_some]
      dsimp only [un2]
      rw [if_neg (nI_pos (by omega)), nI_1, rd_n (by omega) (by decide), Option.bind_some, q5, kw_purse b2 w4, Option.bind_some]
      unfold jgT at r2
      by_cases m1 : f (3 * i + 1) = nI (coS (doT L T2 6 c) (doT L T2 6 c 0))
      rotate_left
      · rw [if_neg m1]
        have : (decide (f (3 * i + 1) = nI (coS (doT L T2 6 c) (doT L T2 6 c 0))) && (decide (f (3 * i + 2) = nI (wS (doT L T2 6 c) 6 (doT L T2 6 c 0))) && (decide (i + 1 < n) || dn (doT L T2 6 c) 6))) = false := by simp [m1]
        rw [this, if_neg (by decide)] at r2
        exact Or.inr ⟨_, rfl, g4, _, b2, fun b hb => f4 b (by omega) (by omega) (by omega) (by omega), Or.inr (Or.inr (by rw [r2]))⟩
      rw [if_pos m1, show (2 : Int32) = nI 2 from rfl, nI_add, rd_n (by omega) (by decide), Option.bind_some, q6, kw_whole b2 w4, Option.bind_some]
      by_cases m2 : f (3 * i + 2) = nI (wS (doT L T2 6 c) 6 (doT L T2 6 c 0))
      rotate_left
      · rw [if_neg m2]
        have : (decide (f (3 * i + 1) = nI (coS (doT L T2 6 c) (doT L T2 6 c 0))) && (decide (f (3 * i + 2) = nI (wS (doT L T2 6 c) 6 (doT L T2 6 c 0))) && (decide (i + 1 < n) || dn (doT L T2 6 c) 6))) = false := by simp [m2]
        rw [this, if_neg (by decide)] at r2
        exact Or.inr ⟨_, rfl, g4, _, b2, fun b hb => f4 b (by omega) (by omega) (by omega) (by omega), Or.inr (Or.inl (by rw [r2]))⟩
      rw [if_pos m2]
      by_cases m3 : i + 1 < n
      · have : (decide (f (3 * i + 1) = nI (coS (doT L T2 6 c) (doT L T2 6 c 0))) && (decide (f (3 * i + 2) = nI (wS (doT L T2 6 c) 6 (doT L T2 6 c 0))) && (decide (i + 1 < n) || dn (doT L T2 6 c) 6))) = true := by simp [m1, m2, m3]
        rw [this, if_pos rfl] at r2
        rw [if_pos (show nI (i + 1) < g4 0 28 by rw [q4]; exact nI_lt m3 (by omega))]
        exact Or.inl ⟨_, rfl, g4, 0, _, rfl, b2, w4, e4, f4, fun _ => ⟨rfl, by rw [show n - (i + 1) = n - i - 1 by omega]; exact r2⟩, fun e => by omega⟩
      rw [if_neg (show ¬ nI (i + 1) < g4 0 28 by rw [q4]; exact nI_nlt (by omega) (by omega)), kw_isDone b2 w4 (Or.inr rfl), Option.bind_some, iz]
      by_cases m4 : dn (doT L T2 6 c) 6 = true
      · have : (decide (f (3 * i + 1) = nI (coS (doT L T2 6 c) (doT L T2 6 c 0))) && (decide (f (3 * i + 2) = nI (wS (doT L T2 6 c) 6 (doT L T2 6 c 0))) && (decide (i + 1 < n) || dn (doT L T2 6 c) 6))) = true := by simp [m1, m2, m4]
        rw [this, if_pos rfl, show n - i - 1 = 0 by omega] at r2
        rw [if_pos m4]
        exact Or.inl ⟨_, rfl, g4, 0, _, rfl, b2, w4, e4, f4, fun e => by omega, fun _ => by rw [← r2]; rfl⟩
      · have : (decide (f (3 * i + 1) = nI (coS (doT L T2 6 c) (doT L T2 6 c 0))) && (decide (f (3 * i + 2) = nI (wS (doT L T2 6 c) 6 (doT L T2 6 c 0))) && (decide (i + 1 < n) || dn (doT L T2 6 c) 6))) = false := by simp [m3, m4]
        rw [this, if_neg (by decide)] at r2
        rw [if_neg m4]
        exact Or.inl ⟨_, rfl, g4, _, _, rfl, b2, w4, e4, f4, fun e => by omega, fun _ => by rw [r2]⟩
  · rintro s ⟨g2, v, T2, rfl, k2, w2, e2, f2, -, r2⟩
    refine ⟨_, ?_, g2, T2, k2, fun b hb => f2 b (by omega) (by omega) (by omega) (by omega), Or.inr (Or.inr (by rw [← r2 rfl]))⟩
    dsimp only [un3]
    rw [if_pos (show g2 0 28 ≤ nI n by rw [f2 0 (by decide) (by decide) (by decide) (by decide), h28]; exact nI_le (Nat.le_refl _) (by omega))]
theorem tw_judged {f : Nat → Int32} {n : Nat} (hL : LOK L) (hU : UR U L en) (n6 : n ≤ 6) {h1 : St} (k1 : TR h0 h1 T z U 6) (w : WF T) (h24 : h1 0 24 = nI n) (hf : ∀ i, i < 3 * n → h1 24 i = f i) {res : Nat} (hr : jgS L f n n 0 T = res) : ∃ t, iter (L := St × Int32 × Int32) (T := St × Int32) (un3 fun s5a s5b s5c =>
      if (s5a 0 24) ≤ s5c then
        some (.inr (s5a, s5b))
      else
        if s5b = 0 then
          (rd (s5a 24) 18 ((3 : Int32) * s5c)).bind fun x8 =>
          (tF_isNumber s5a x8).bind fun x9 =>
          Option.bind (α := St × Int32) (β := ((St × Int32 × Int32) ⊕ (St × Int32)))
            (if x9 = 0 then
              some (s5a, (0 : Int32))
            else
              (rd (s5a 24) 18 ((3 : Int32) * s5c)).bind fun x37 =>
              (tF_canBe s5a x37).bind (un2 fun y38a y38b =>
              if y38a = 0 then
                some (y38b, (0 : Int32))
              else
                some (y38b, (1 : Int32))))
            (un2 fun j11a j11b => Option.bind (α := St × Int32) (β := ((St × Int32 × Int32) ⊕ (St × Int32)))
              (if j11b = 0 then
                some (j11a, j11b)
              else
                (rd (j11a 24) 18 ((3 : Int32) * s5c)).bind fun x16 =>
                (tF_does j11a x16).bind fun g17 =>
                (rd (g17 24) 18 (((3 : Int32) * s5c) + (1 : Int32))).bind fun x18 =>
                (tF_coinsAll g17).bind fun x19 =>
                Option.bind (α := Int32) (β := St × Int32)
                  (if x18 = x19 then
                    (rd (g17 24) 18 (((3 : Int32) * s5c) + (2 : Int32))).bind fun x22 =>
                    (tF_wholeSet g17).bind fun x23 =>
                    if x22 = x23 then
                      jn (S := Unit) (T := Int32)
                        (if s5c < ((g17 0 24) - (1 : Int32)) then
                          some (.inl ())
                        else
                          (tF_wholeSet g17).bind fun x26 =>
                          (tF_thereSet g17).bind fun x27 =>
                          if x26 = x27 then
                            some (.inl ())
                          else
                            some (.inr (0 : Int32)))
                        (fun j24 => some (1 : Int32))
                    else
                      some (0 : Int32)
                  else
                    some (0 : Int32))
                  (fun j20 => some (g17, j20)))
              (un2 fun j13a j13b => if j13b = 0 then
                some (.inl (j13a, (s5c + (1 : Int32)), (s5c + (1 : Int32))))
              else
                some (.inl (j13a, (0 : Int32), (s5c + (1 : Int32))))))
        else
          some (.inr (s5a, s5b))) (h1, (0 : Int32), (0 : Int32)) = some t ∧ ∃ h' T', TR h0 h' T' z U 6 ∧ h' 3 = h1 3 ∧ t = (h', nI res) := by
  have rb : res ≤ n := by
    have := jgS_le (L := L) (f := f) (n := n) n 0 T
    omega
  refine iter_inx (fun i s => ∃ h' v T', s = (h', v, nI i) ∧ TR h0 h' T' z U 6 ∧ WF T' ∧ (∀ b, b ≠ 0 → b ≠ 1 → b ≠ 6 → h' b = h1 b) ∧ h' 0 24 = nI n ∧ ((v = 0 ∧ jgS L f n (n - i) i T' = res) ∨ (v = nI res ∧ 0 < res))) _ n ?_ ?_ n 0 (h1, (0 : Int32), (0 : Int32)) (by omega) ⟨h1, 0, T, rfl, k1, w, fun _ _ _ _ => rfl, h24, Or.inl ⟨rfl, hr⟩⟩
  · rintro i hi s ⟨g2, v, T2, rfl, k2, w2, f2, q0, r2⟩
    dsimp only [un3]
    rw [if_neg (show ¬ g2 0 24 ≤ nI i by rw [q0]; exact nI_ge hi (by omega))]
    rcases r2 with ⟨rfl, r2⟩ | ⟨rfl, r2⟩
    rotate_left
    · rw [if_neg (nI_ne0 r2 (by omega))]
      exact Or.inr ⟨_, rfl, g2, T2, k2, f2 3 (by decide) (by decide) (by decide), rfl⟩
    left
    have q1 : g2 24 (3 * i) = f (3 * i) := by rw [f2 24 (by decide) (by decide) (by decide)]; exact hf _ (by omega)
    rw [show n - i = (n - i - 1) + 1 by omega] at r2
    unfold jgS at r2
    rw [if_pos rfl, show (3 : Int32) = nI 3 from rfl, pk_mul, rd_n (by omega) (by decide), Option.bind_some, q1, nI_1 i]
    by_cases hx : f (3 * i) < 0
    · rw [tw_isNumberN hx, Option.bind_some, if_pos rfl, Option.bind_some]
      have : jgO L T2 (f (3 * i)) = false := by
        unfold jgO
        simp [hx]
      rw [this, if_neg (by decide)] at r2
      refine ⟨(g2, nI (i + 1), nI (i + 1)), rfl, g2, _, T2, rfl, k2, w2, f2, q0, Or.inr ⟨by rw [r2], by omega⟩⟩
    · obtain ⟨c, hc, ec⟩ := nI_of hx
      have ecl : (f (3 * i)).toNatClampNeg = c := by rw [ec]; exact nI_clamp hc
      rw [ecl] at r2
      have jo : jgO L T2 (f (3 * i)) = okC L T2 6 c := by
        unfold jgO
        rw [ecl]
        simp [hx]
      rw [jo] at r2
      rw [ec, tw_isNumber k2 w2 hc, Option.bind_some, iz]
      by_cases ch : chg T2 c = true
      rotate_left
      · have : okC L T2 6 c = false := by
          unfold okC
          simp [ch]
        rw [this, if_neg (by decide)] at r2
        rw [if_neg ch, Option.bind_some]
        refine ⟨(g2, nI (i + 1), nI (i + 1)), rfl, g2, _, T2, rfl, k2, w2, f2, q0, Or.inr ⟨by rw [r2], by omega⟩⟩
      rw [if_pos ch, Option.bind_some]
      obtain ⟨g3, a1, a2, a3⟩ := tw_canBe k2 w2 (by omega) hU hL ch
      rw [a1, Option.bind_some]
      dsimp only [un2]
      rw [iz]
      by_cases cn : can L T2 6 c = true
      rotate_left
      · have : okC L T2 6 c = false := by
          unfold okC
          simp [cn]
        rw [this, if_neg (by decide)] at r2
        rw [if_neg cn, Option.bind_some]
        refine ⟨(g3, nI (i + 1), nI (i + 1)), rfl, g3, _, T2, rfl, a2, w2, fun b n0 n1 n2 => by rw [a3 b n2]; exact f2 b n0 n1 n2, by rw [a3 0 (by decide)]; exact q0, Or.inr ⟨by rw [r2], by omega⟩⟩
      have okc : okC L T2 6 c = true := by
        unfold okC
        rw [ch, cn]
        rfl
      rw [if_pos cn, Option.bind_some]
      dsimp only [un2]
      rw [okc, if_pos rfl] at r2
      obtain ⟨g4, b1, b2, -, -, b5, b6⟩ := tw_does a2 w2 (by omega) hU hL okc
      have w4 := do_WF w2 okc
      have f4 : ∀ b, b ≠ 0 → b ≠ 1 → b ≠ 6 → g4 b = h1 b := fun b n0 n1 n2 => by rw [b5 b n0 n1 n2, a3 b n2]; exact f2 b n0 n1 n2
      have q4 : g4 0 24 = nI n := by rw [b6 24 (by decide) (by decide), a3 0 (by decide)]; exact q0
      have q5 : g4 24 (3 * i + 1) = f (3 * i + 1) := by rw [f4 24 (by decide) (by decide) (by decide)]; exact hf _ (by omega)
      have q6 : g4 24 (3 * i + 2) = f (3 * i + 2) := by rw [f4 24 (by decide) (by decide) (by decide)]; exact hf _ (by omega)
      have q7 : g3 24 (3 * i) = nI c := by rw [a3 24 (by decide), q1, ec]
      rw [if_neg c10, rd_n (by omega) (by decide), Option.bind_some, q7, b1, Option.bind_some, nI_1 (3 * i), rd_n (by omega) (by decide), Option.bind_some, q5, tw_coinsAll b2 w4, Option.bind_some]
      unfold jgT at r2
      by_cases m1 : f (3 * i + 1) = nI (coS (doT L T2 6 c) (doT L T2 6 c 0))
      rotate_left
      · rw [if_neg m1]
        have : (decide (f (3 * i + 1) = nI (coS (doT L T2 6 c) (doT L T2 6 c 0))) && (decide (f (3 * i + 2) = nI (wS (doT L T2 6 c) 6 (doT L T2 6 c 0))) && (decide (i + 1 < n) || dn (doT L T2 6 c) 6))) = false := by simp [m1]
        rw [this, if_neg (by decide)] at r2
        refine ⟨(g4, nI (i + 1), nI (i + 1)), rfl, g4, _, _, rfl, b2, w4, f4, q4, Or.inr ⟨by rw [r2], by omega⟩⟩
      rw [if_pos m1, show (2 : Int32) = nI 2 from rfl, nI_add, rd_n (by omega) (by decide), Option.bind_some, q6, tw_wholeSet b2 w4 (by omega), Option.bind_some]
      by_cases m2 : f (3 * i + 2) = nI (wS (doT L T2 6 c) 6 (doT L T2 6 c 0))
      rotate_left
      · rw [if_neg m2]
        have : (decide (f (3 * i + 1) = nI (coS (doT L T2 6 c) (doT L T2 6 c 0))) && (decide (f (3 * i + 2) = nI (wS (doT L T2 6 c) 6 (doT L T2 6 c 0))) && (decide (i + 1 < n) || dn (doT L T2 6 c) 6))) = false := by simp [m2]
        rw [this, if_neg (by decide)] at r2
        refine ⟨(g4, nI (i + 1), nI (i + 1)), rfl, g4, _, _, rfl, b2, w4, f4, q4, Or.inr ⟨by rw [r2], by omega⟩⟩
      have es : nI n - 1 = nI (n - 1) := by
        have := pk_sub (a := n) (b := 1) (by omega)
        exact this
      rw [if_pos m2, q4, es, it (by omega) (by omega)]
      by_cases m3 : i + 1 < n
      · have : (decide (f (3 * i + 1) = nI (coS (doT L T2 6 c) (doT L T2 6 c 0))) && (decide (f (3 * i + 2) = nI (wS (doT L T2 6 c) 6 (doT L T2 6 c 0))) && (decide (i + 1 < n) || dn (doT L T2 6 c) 6))) = true := by simp [m1, m2, m3]
        rw [this, if_pos rfl] at r2
        rw [if_pos (by omega)]
        exact ⟨(g4, 0, nI (i + 1)), rfl, g4, 0, _, rfl, b2, w4, f4, q4, Or.inl ⟨rfl, by rw [show n - (i + 1) = n - i - 1 by omega]; exact r2⟩⟩
      have hl := wS_lt (T := doT L T2 6 c) (ab := 6) (n := doT L T2 6 c 0)
      have hn := w4.n
      have hp2 : 2 ^ doT L T2 6 c 0 ≤ 2 ^ 6 := Nat.pow_le_pow_right (by decide) hn
      have hcl : clr (2 ^ doT L T2 6 c 0 - 1) 6 = 2 ^ doT L T2 6 c 0 - 1 := by
        unfold clr
        rw [if_neg (by decide)]
      have hdn := dn_t (T := doT L T2 6 c) (ab := 6) (Or.inr rfl) w4
      rw [if_neg (by omega), Option.bind_some, tw_thereSet b2 w4 (by omega), Option.bind_some, hcl, ie (by omega) (by omega)]
      rw [hcl] at hdn
      by_cases m4 : dn (doT L T2 6 c) 6 = true
      · have : (decide (f (3 * i + 1) = nI (coS (doT L T2 6 c) (doT L T2 6 c 0))) && (decide (f (3 * i + 2) = nI (wS (doT L T2 6 c) 6 (doT L T2 6 c 0))) && (decide (i + 1 < n) || dn (doT L T2 6 c) 6))) = true := by simp [m1, m2, m4]
        rw [this, if_pos rfl] at r2
        rw [if_pos (hdn.mpr m4)]
        exact ⟨(g4, 0, nI (i + 1)), rfl, g4, 0, _, rfl, b2, w4, f4, q4, Or.inl ⟨rfl, by rw [show n - (i + 1) = n - i - 1 by omega]; exact r2⟩⟩
      · have : (decide (f (3 * i + 1) = nI (coS (doT L T2 6 c) (doT L T2 6 c 0))) && (decide (f (3 * i + 2) = nI (wS (doT L T2 6 c) 6 (doT L T2 6 c 0))) && (decide (i + 1 < n) || dn (doT L T2 6 c) 6))) = false := by simp [m3, m4]
        rw [this, if_neg (by decide)] at r2
        rw [if_neg (fun x => m4 (hdn.mp x))]
        exact ⟨(g4, nI (i + 1), nI (i + 1)), rfl, g4, _, _, rfl, b2, w4, f4, q4, Or.inr ⟨by rw [r2], by omega⟩⟩
  · rintro s ⟨g2, v, T2, rfl, k2, w2, f2, q0, r2⟩
    refine ⟨(g2, v), ?_, g2, T2, k2, f2 3 (by decide) (by decide) (by decide), ?_⟩
    · dsimp only [un3]
      rw [if_pos (show g2 0 24 ≤ nI n by rw [q0]; exact nI_le (Nat.le_refl _) (by omega))]
    · rcases r2 with ⟨rfl, r2⟩ | ⟨rfl, r2⟩
      · rw [Nat.sub_self] at r2
        rw [← r2]
        rfl
      · rfl
theorem pb_judge (j : JT E L U en g h T z g h) (s : PRows g h) : Pb E L U en g h (kF_judge E g) (tF_judge h) := by
  obtain ⟨n, n6, e1, e2, e3⟩ := s
  obtain ⟨g1, a1, a2⟩ := bec53 g
  have k1 := j.k.tried a2
  have ko : KO 40 g1 T z := KO.into (off := 40) j.k a2
  obtain ⟨h1, d1, d2, d3, d4⟩ := tw_puts j.t
  obtain ⟨t, b1, g2, T2, b2, b3, b4⟩ := kw_judged (f := g 28) (n := n) j.hL n6 k1 j.w j.hE (by rw [a2.1 0 (by omega)]; exact e1) (fun i _ => by rw [a2.1 28 (by omega)]) rfl
  obtain ⟨t', c1, h2, T3, c2, c3, rfl⟩ := tw_judged (f := g 28) (n := n) j.hL j.hU n6 d2 j.w (by rw [d3 0 (by decide)]; exact e2) (fun i hi => by rw [d3 24 (by decide)]; exact (e3 i hi).symm) rfl
  obtain ⟨g3, f1, f2⟩ := bec35 g2
  have ko2 : KO 40 g2 T z := by
    refine ⟨fun i x y w => ?_, ?_⟩
    · have := km_b i x
      rw [b3 _ (by omega)]
      exact ko.1 i x y w
    · rw [b3 _ (by omega)]
      exact ko.2
  have k3 := KR.from (off := 40) b2 ko2 f2
  obtain ⟨h3, m1, m2, -⟩ := tw_putsBack c2 j.t (fun i hi => by rw [c3]; exact d4 i hi)
  refine Pb.to (r := nI (jgS L (g 28) n n 0 T)) j ?_ ?_ k3 m2
  · unfold kF_judge
    rw [a1, Option.bind_some]
    refine Eq.trans (congrArg (fun x => Option.bind (jn (jn x _) _) _) b1) ?_
    rcases b4 with e | e | e
    · rw [e]
      refine Eq.trans (congrArg (fun x => Option.bind x _) (show jn (jn (some _) _) _ = some (g2, nI (jgS L (g 28) n n 0 T)) from rfl)) ?_
      rw [Option.bind_some]
      dsimp only [un2]
      rw [f1]
      rfl
    · rw [e]
      refine Eq.trans (congrArg (fun x => Option.bind x _) (show jn (jn (some _) _) _ = some (g2, nI (jgS L (g 28) n n 0 T)) from rfl)) ?_
      rw [Option.bind_some]
      dsimp only [un2]
      rw [f1]
      rfl
    · rw [e]
      refine Eq.trans (congrArg (fun x => Option.bind x _) (show jn (jn (some _) _) _ = some (g2, nI (jgS L (g 28) n n 0 T)) from rfl)) ?_
      rw [Option.bind_some]
      dsimp only [un2]
      rw [f1]
      rfl
  · unfold tF_judge
    rw [d1, Option.bind_some]
    refine Eq.trans (congrArg (fun x => Option.bind x _) c1) ?_
    show (tF_putsBack h2).bind _ = _
    rw [m1]
    rfl
end JDG
