/-! the reference's rings; both -/
set_option maxRecDepth 100000
section TRG
variable {g0 h0 : St} {z : Int32} {E : EE} {L : RLt} {U : Nat → Int32} {en : Nat → Nat} {T : Tn}
theorem tw_isLink {h : St} (k : TR h0 h T z U 6) (w : WF T) {p q : Nat} (hp : p < 6) (hq : q < 6) : tF_isLink h (nI p) (nI q) = some (zI (lnk T p q)) := by
  have b1 := w.ha hq
  have b2 := w.ne hp
  unfold tF_isLink lnk
  rw [tw_doMeet k w hp hq, Option.bind_some, iz, T_ne k hp, Option.bind_some, T_ha k hq, Option.bind_some, ie (by omega) (by omega)]
  cases mee T p q with
  | false =>
    rw [if_neg (by decide), Bool.and_false]
    rfl
  | true =>
    rw [if_pos rfl, Bool.and_true, sz]
    by_cases e : T (24 + 5 * p) = T (23 + 5 * q)
    · simp [e]
    · have e' : ¬ T (23 + 5 * q) = T (24 + 5 * p) := fun x => e x.symm
      simp [e, e']
theorem tw_copyR {h : St} (k : TR h0 h T z U 6) {n : Nat} (hn : n ≤ 6) (hz : h 0 18 = 0) : ∃ h', iter (L := St × Int32) (T := St) (un2 fun s8a s8b =>
          if nI n ≤ s8b then
            some (.inr s8a)
          else
            if (s8a 0 18) = 0 then
              (rd (s8a 17) 6 s8b).bind fun x11 =>
              (wr s8a 18 6 s8b x11).bind fun g12 =>
              some (.inl (g12, (s8b + (1 : Int32))))
            else
              some (.inr s8a)) (h, (0 : Int32)) = some h' ∧ TR h0 h' T z U 6 ∧ (∀ b, b ≠ 18 → h' b = h b) ∧ ∀ j, j < n → h' 18 j = h 17 j := by
  obtain ⟨t, e1, e2⟩ := iter_inv (body := un2 fun s8a s8b =>
          if nI n ≤ s8b then
            some (.inr s8a)
          else
            if (s8a 0 18) = 0 then
              (rd (s8a 17) 6 s8b).bind fun x11 =>
              (wr s8a 18 6 s8b x11).bind fun g12 =>
              some (.inl (g12, (s8b + (1 : Int32))))
            else
              some (.inr s8a)) (fun i s => ∃ h', s = (h', nI i) ∧ TR h0 h' T z U 6 ∧ (∀ b, b ≠ 18 → h' b = h b) ∧ ∀ j, j < i → h' 18 j = h 17 j) (fun t => TR h0 t T z U 6 ∧ (∀ b, b ≠ 18 → t b = h b) ∧ ∀ j, j < n → t 18 j = h 17 j) n
    (by
      rintro i hi s ⟨h1, rfl, k1, f1, r1⟩
      dsimp only [un2]
      obtain ⟨h2, a1, k2, a3⟩ := k1.wrS 18 6 i (x := nI i) (h1 17 i) rfl (by omega) (by decide) rfl
      rw [if_neg (nI_ge hi (by omega)), if_pos (show h1 0 18 = 0 by rw [f1 0 (by decide)]; exact hz), rd_n (by omega) (by decide), Option.bind_some, a1, Option.bind_some, nI_1]
      refine ⟨_, rfl, h2, rfl, k2, fun b nb => ?_, fun j hj => ?_⟩
      · rw [a3, up2_o nb]
        exact f1 b nb
      · rw [a3, up2_row]
        by_cases e : j = i
        · subst e
          rw [pk_us, f1 17 (by decide)]
        · rw [pk_un e]
          exact r1 j (by omega))
    (by
      rintro s ⟨h1, rfl, k1, f1, r1⟩
      refine ⟨h1, ?_, k1, f1, r1⟩
      dsimp only [un2]
      rw [if_pos (nI_le (Nat.le_refl _) (by omega))]) n 0 (h, (0 : Int32)) (by omega) ⟨h, rfl, k, fun _ _ => rfl, fun j hj => by omega⟩
  exact ⟨t, e1, e2⟩
theorem tw_rings (w : WF T) : ∀ (d rem : Nat) (pre : List Nat) (f p us : Nat) (a : RAcc) (h : St), rem < d → pre.length + rem ≤ 6 → 0 < pre.length → f < 6 → p < 6 → us < 64 → a.1 + 6 ^ rem < 2 ^ 30 → TR h0 h T z U 6 → rowIs (h 17) pre → pre[0]? = some f → pre[pre.length - 1]? = some p → accR h 18 18 a → ∃ h', tF_circles d h (nI pre.length) (nI us) (nI (pre.length + rem)) = some h' ∧ TR h0 h' T z U 6 ∧ rowIs (h' 17) pre ∧ accR h' 18 18 (rgA T f rem pre p us a) := by
  intro d
  induction d with
  | zero => intro rem pre f p us a h hd; omega
  | succ d ih =>
    intro rem pre f p us a h hd hl hl0 hf hp hus hcnt k hrow hpf hpp hacc
    have hn := w.n
    have r0 : h 17 0 = nI f := hrow 0 f hpf
    have rp : h 17 (pre.length - 1) = nI p := hrow _ p hpp
    rw [tF_circles]
    dsimp only
    rw [nI_m1 hl0, rd_n (by omega) (by decide), Option.bind_some, rp, ie (by omega) (by omega)]
    cases rem with
    | zero =>
      rw [if_pos (by omega), rd_l (x := 0) 0 rfl (by omega) (by decide), Option.bind_some, r0, tw_isLink k w hp hf, Option.bind_some, iz, Nat.add_zero]
      unfold rgA
      cases e2 : lnk T p f with
      | false =>
        rw [if_neg (by decide), if_neg (by decide)]
        exact ⟨h, rfl, k, hrow, hacc⟩
      | true =>
        rw [if_pos rfl, if_pos rfl]
        have pf1 : ∀ (s : St) (v : Int32), pf s 0 18 v = some (up2 s 0 18 v) := fun _ _ => rfl
        by_cases e3 : a.1 = 0
        · obtain ⟨h1, c1, c2, c3, c4⟩ := tw_copyR k (n := pre.length) (by omega) (by rw [hacc.1, e3]; rfl)
          rw [c1, Option.bind_some, pf1, Option.bind_some]
          refine ⟨_, rfl, c2.scr (b := 0) (i := 18) _ rfl, ?_, ?_, fun _ => ⟨pre, ?_, ?_⟩⟩
          · rw [up2_o (by decide), c3 17 (by decide)]
            exact hrow
          · rw [up2_s, c3 0 (by decide), hacc.1, nI_1]
            rfl
          · show (if a.1 = 0 then some pre else a.2) = some pre
            rw [if_pos e3]
          · rw [up2_o (by decide)]
            exact rowIs_cp hrow c4
        · have ex : iter (L := St × Int32) (T := St) (un2 fun s8a s8b =>
          if nI pre.length ≤ s8b then
            some (.inr s8a)
          else
            if (s8a 0 18) = 0 then
              (rd (s8a 17) 6 s8b).bind fun x11 =>
              (wr s8a 18 6 s8b x11).bind fun g12 =>
              some (.inl (g12, (s8b + (1 : Int32))))
            else
              some (.inr s8a)) (h, (0 : Int32)) = some h := by
            apply iter_done
            dsimp only [un2]
            split
            · rfl
            · rw [if_neg (show ¬ h 0 18 = 0 by rw [hacc.1]; exact nI_ne0 (by omega) (by omega))]
          rw [ex, Option.bind_some, pf1, Option.bind_some]
          obtain ⟨r, hr1, hr2⟩ := hacc.2 e3
          refine ⟨_, rfl, k.scr (b := 0) (i := 18) _ rfl, ?_, ?_, fun _ => ⟨r, ?_, ?_⟩⟩
          · rw [up2_o (by decide)]
            exact hrow
          · rw [up2_s, hacc.1, nI_1]
            rfl
          · show (if a.1 = 0 then some pre else a.2) = some r
            rw [if_neg e3]
            exact hr1
          · rw [up2_o (by decide)]
            exact hr2
    | succ rem =>
      rw [if_neg (by omega), rd_l (x := 0) 0 rfl (by omega) (by decide), Option.bind_some, r0, nI_1 f]
      have p6 : 6 ^ (rem + 1) = 6 ^ rem * 6 := Nat.pow_succ _ _
      obtain ⟨t, e1, e2⟩ := iter_inv (body := un2 fun s20a s20b =>
      (rd (s20a 1) 340 (0 : Int32)).bind fun x22 =>
      if x22 ≤ s20b then
        some (.inr s20a)
      else
        if ((nI us >>> (s20b &&& 31)) &&& (1 : Int32)) = 0 then
          (tF_isWhole s20a s20b).bind fun x24 =>
          if x24 = 0 then
            (tF_isLink s20a (nI p) s20b).bind fun x26 =>
            if x26 = 0 then
              some (.inl (s20a, (s20b + (1 : Int32))))
            else
              (wr s20a 17 6 (nI pre.length) s20b).bind fun g28 =>
              (tF_circles d g28 (nI pre.length + (1 : Int32)) (nI us ||| ((1 : Int32) <<< (s20b &&& 31))) (nI (pre.length + (rem + 1)))).bind fun g29 =>
              some (.inl (g29, (s20b + (1 : Int32))))
          else
            some (.inl (s20a, (s20b + (1 : Int32))))
        else
          some (.inl (s20a, (s20b + (1 : Int32))))) (fun i s => ∃ g', s = (g', nI (f + 1 + i)) ∧ TR h0 g' T z U 6 ∧ rowIs (g' 17) pre ∧ accR g' 18 18 (foC (fun q => !us.testBit q && (lnk T p q && !isW T q)) (fun q a => rgA T f rem (pre ++ [q]) q (us ||| 2 ^ q) a) i (f + 1) a) ∧ (foC (fun q => !us.testBit q && (lnk T p q && !isW T q)) (fun q a => rgA T f rem (pre ++ [q]) q (us ||| 2 ^ q) a) i (f + 1) a).1 ≤ a.1 + i * 6 ^ rem) (fun t => TR h0 t T z U 6 ∧ rowIs (t 17) pre ∧ accR t 18 18 (foC (fun q => !us.testBit q && (lnk T p q && !isW T q)) (fun q a => rgA T f rem (pre ++ [q]) q (us ||| 2 ^ q) a) (T 0 - (f + 1)) (f + 1) a)) (T 0 - (f + 1))
        (by
          rintro i hi s ⟨g1, rfl, k1, w1, ac1, le1⟩
          have q6 : f + 1 + i < 6 := by omega
          have hi6 : (i + 1) * 6 ^ rem = i * 6 ^ rem + 6 ^ rem := Nat.succ_mul _ _
          have hle6 : (i + 1) * 6 ^ rem ≤ 6 * 6 ^ rem := Nat.mul_le_mul_right _ (by omega)
          rw [foC_snoc]
          dsimp only [un2]
          have hbit := bit_n us hus _ q6
          have hpos : 0 < 6 ^ rem := Nat.pow_pos (by decide)
          rw [T_0 k1, Option.bind_some, if_neg (nI_ge (by omega) (by omega))]
          cases hu : us.testBit (f + 1 + i) with
          | true =>
            rw [if_neg (show ¬ nI us >>> (nI (f + 1 + i) &&& 31) &&& 1 = 0 by rw [hbit, hu]; decide), nI_1]
            refine ⟨_, rfl, g1, by rw [Nat.add_assoc], k1, w1, ?_⟩
            rw [if_neg (by simp)]
            exact ⟨ac1, by omega⟩
          | false =>
            rw [if_pos (show nI us >>> (nI (f + 1 + i) &&& 31) &&& 1 = 0 by rw [hbit, hu]; rfl), tw_isWhole k1 w q6, Option.bind_some, iz, tw_isLink k1 w hp q6, Option.bind_some, iz, nI_1]
            cases x3 : isW T (f + 1 + i) with
            | true =>
              rw [if_pos rfl]
              refine ⟨_, rfl, g1, by rw [Nat.add_assoc], k1, w1, ?_⟩
              rw [if_neg (by simp)]
              exact ⟨ac1, by omega⟩
            | false =>
              rw [if_neg (by decide)]
              cases x2 : lnk T p (f + 1 + i) with
              | false =>
                rw [if_neg (by decide)]
                refine ⟨_, rfl, g1, by rw [Nat.add_assoc], k1, w1, ?_⟩
                rw [if_neg (by simp)]
                exact ⟨ac1, by omega⟩
              | true =>
                rw [if_pos rfl]
                obtain ⟨g2, c1, c2, c3⟩ := k1.wrS 17 6 pre.length (x := nI pre.length) (nI (f + 1 + i)) rfl (by omega) (by decide) rfl
                have rw2 : rowIs (g2 17) (pre ++ [f + 1 + i]) := by
                  rw [c3, up2_row]
                  exact rowIs_snoc w1 _
                generalize hA : foC (fun q => !us.testBit q && (lnk T p q && !isW T q)) (fun q a => rgA T f rem (pre ++ [q]) q (us ||| 2 ^ q) a) i (f + 1) a = A at ac1 le1
                have ac2 : accR g2 18 18 A := by
                  refine ⟨by rw [c3, up2_o (by decide)]; exact ac1.1, fun hne => ?_⟩
                  obtain ⟨r, y1, y2⟩ := ac1.2 hne
                  exact ⟨r, y1, by rw [c3, up2_o (by decide)]; exact y2⟩
                have el : nI pre.length + 1 = nI (pre ++ [f + 1 + i]).length := by rw [nI_1]; simp
                have el2 : nI (pre.length + (rem + 1)) = nI ((pre ++ [f + 1 + i]).length + rem) := by congr 1; simp; omega
                obtain ⟨g3, d1, d2, d3, d4⟩ := ih rem (pre ++ [f + 1 + i]) f (f + 1 + i) (us ||| 2 ^ (f + 1 + i)) A g2 (by omega) (by simp; omega) (by simp) hf q6 (us_lt us hus _ q6) (by omega) c2 rw2 (by rw [List.getElem?_append_left hl0]; exact hpf) (by simp) ac2
                rw [c1, Option.bind_some, nI_bit _ (by omega), nI_or, el, el2, d1, Option.bind_some]
                have hle := rgA_le T w f rem (pre ++ [f + 1 + i]) (f + 1 + i) (us ||| 2 ^ (f + 1 + i)) A
                refine ⟨_, rfl, g3, by rw [Nat.add_assoc], d2, rowIs_pre d3, ?_⟩
                rw [if_pos (by simp)]
                exact ⟨d4, by omega⟩)
        (by
          rintro s ⟨g1, rfl, k1, w1, ac1, le1⟩
          refine ⟨g1, ?_, k1, w1, ac1⟩
          dsimp only [un2]
          rw [T_0 k1, Option.bind_some, if_pos (nI_le (by omega) (by omega))]) (T 0 - (f + 1)) 0 (h, nI (f + 1)) (by omega) ⟨h, rfl, k, hrow, hacc, by show a.1 ≤ _; omega⟩
      exact ⟨t, e1, e2.1, e2.2.1, e2.2.2⟩
end TRG
