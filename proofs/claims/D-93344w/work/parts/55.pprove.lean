/-! prove: the shortest row, shown -/
set_option maxRecDepth 100000
theorem foF_in {R : Type} {P : Nat → Bool} {f : Nat → Option R} {r : R} : ∀ k c, foF P f k c = some r → ∃ i, P i = true ∧ f i = some r
  | 0, _, h => by cases h
  | k + 1, c, h => by
    unfold foF at h
    by_cases p : P c = true
    · rw [if_pos p] at h
      cases q : f c with
      | some x =>
        rw [q] at h
        exact ⟨c, p, q.trans h⟩
      | none =>
        rw [q] at h
        exact foF_in k (c + 1) h
    · rw [if_neg p] at h
      exact foF_in k (c + 1) h
theorem dI_path {L : RLt} {ab : Nat} : ∀ n T r, dI L ab n T = some r → ∃ P : Nat → Tn, P 0 = T ∧ ∀ k, k < n → okC L (P k) ab (r.getD k 0) = true ∧ P (k + 1) = doT L (P k) ab (r.getD k 0)
  | 0, T, r, _ => ⟨fun _ => T, rfl, fun k h => by omega⟩
  | n + 1, T, r, h => by
    unfold dI at h
    split at h
    · cases h
    · obtain ⟨c, hc, e⟩ := foF_in 60 0 h
      cases q : dI L ab n (doT L T ab c) with
      | none =>
        rw [q] at e
        cases e
      | some r' =>
        rw [q] at e
        have e : c :: r' = r := Option.some.inj e
        subst e
        obtain ⟨P, p0, p1⟩ := dI_path n _ r' q
        refine ⟨fun k => Nat.casesOn (motive := fun _ => Tn) k T P, rfl, fun k hk => ?_⟩
        cases k with
        | zero => exact ⟨hc, p0⟩
        | succ k => exact p1 k (by omega)
theorem few_path {L : RLt} {ab m : Nat} {T : Tn} {r : List Nat} (h : few L ab m T = some r) : r.length ≤ m ∧ ∃ P : Nat → Tn, P 0 = T ∧ ∀ k, k < r.length → okC L (P k) ab (r.getD k 0) = true ∧ P (k + 1) = doT L (P k) ab (r.getD k 0) := by
  unfold few at h
  cases q : fi (fun n => (dI L ab n T).isSome) (m + 1) 0 with
  | none =>
    rw [q] at h
    cases h
  | some n =>
    rw [q] at h
    have h : dI L ab n T = some r := h
    have e := dI_len h
    have e2 := (fi_in q).2.1
    subst e
    exact ⟨by omega, dI_path _ T r h⟩
section PRV
variable {g g' h h' : St} {T Tk : Tn} {z zk : Int32} {U Uk : Nat → Int32} {E : EE} {L : RLt} {en : Nat → Nat} {g0 h0 : St}
theorem TR.mix {h00 o : St} {T' : Tn} {z' : Int32} {ab : Nat} (k : TR h0 h T' z' U ab) (ko : TR h00 o T z U ab) : TR h0 (fun b => if b = 1 then o 1 else h b) T z U ab := by
  refine ⟨fun i a b c => ?_, ?_, fun i a => ?_, ?_, fun b i hs => ?_⟩
  · exact ko.1 i a b c
  · exact ko.2.1
  · exact ko.2.2.1 i a
  · exact k.2.2.2.1
  · have : b ≠ 1 := by
      intro q
      subst q
      simp [tS] at hs
    show (if b = 1 then o 1 else h b) i = _
    rw [if_neg this]
    exact k.2.2.2.2 b i hs
theorem PRS.of (s : PRS g h Tk zk Uk) (e1 : ∀ b, b = 11 ∨ b = 32 ∨ b = 33 ∨ (60 ≤ b ∧ b < 80) → g' b = g b) (e2 : g' 0 11 = g 0 11) (e3 : g' 0 6 = g 0 6) (f1 : ∀ b, b = 2 ∨ b = 26 ∨ b = 40 → h' b = h b) (f2 : h' 0 26 = h 0 26) (f3 : h' 0 40 = h 0 40) (f4 : h' 0 3 = h 0 3) (r : PRows g' h') : PRS g' h' Tk zk Uk := by
  refine ⟨?_, r, ?_, ?_⟩
  · obtain ⟨n, tp, p1, p2, p3, p4⟩ := s.1
    refine ⟨n, tp, p1, e2.trans p2, f2.trans p3, fun i hi => ?_⟩
    rw [e1 11 (by omega), f1 26 (by omega)]
    exact p4 i hi
  · obtain ⟨n, p1, p2, p3, p4⟩ := s.2.2.1
    refine ⟨n, p1, by rw [e1 32 (by omega)]; exact p2, f3.trans p3, fun i hi => ?_⟩
    rw [e1 33 (by omega), f1 40 (by omega)]
    exact p4 i hi
  · rcases s.2.2.2 with ⟨p1, p2⟩ | ⟨p1, p2, p3, p4⟩
    · exact Or.inl ⟨e3.trans p1, f4.trans p2⟩
    · refine Or.inr ⟨e3.trans p1, f4.trans p2, ⟨fun i x y w => ?_, ?_⟩, ⟨fun i x y w => ?_, ?_, fun i x y => ?_⟩⟩
      · have := km_b i x
        rw [e1 _ (by omega)]
        exact p3.1 i x y w
      · rw [e1 _ (by omega)]
        exact p3.2
      · rw [f1 2 (by omega)]
        exact p4.1 i x y w
      · rw [f1 2 (by omega)]
        exact p4.2.1
      · rw [f1 2 (by omega)]
        exact p4.2.2 i x y
/-- rows as they are shown: the changes c along the towns P -/
def shR (P : Nat → Tn) (c : Nat → Nat) (f : Nat → Int32) (n : Nat) : Prop := ∀ k, k < n → f (3 * k) = nI (c k) ∧ f (3 * k + 1) = nI (coS (P (k + 1)) (P (k + 1) 0)) ∧ f (3 * k + 2) = nI (wS (P (k + 1)) 6 (P (k + 1) 0))
theorem kw_shown {n : Nat} {P : Nat → Tn} {c : Nat → Nat} (hL : LOK L) (hE : ∀ k, k ≤ n → ER E L (P k)) (hW : ∀ k, k ≤ n → WF (P k)) (ok : ∀ k, k < n → okC L (P k) 6 (c k) = true ∧ P (k + 1) = doT L (P k) 6 (c k)) (n6 : n ≤ 6) {g4 : St} (k4 : KR g4 g4 (P 0) z 6) (h17 : ∀ k, k < n → g4 17 k = nI (c k)) : ∃ g', iter (L := St × Int32) (T := St) (un2 fun s8a s8b =>
        if nI n ≤ s8b then
          some (.inr s8a)
        else
          (rd (s8a 17) 6 s8b).bind fun x11 =>
          (wr s8a 28 18 ((3 : Int32) * s8b) x11).bind fun g12 =>
          (rd (g12 17) 6 s8b).bind fun x13 =>
          (kF_carry E g12 x13).bind (un2 fun y14a y14b =>
          Option.bind (α := Int32) (β := ((St × Int32) ⊕ (St)))
            (if 0 ≤ y14a then
              (kF_X3_purse y14b).bind fun x20 =>
              some x20
            else
              some (0 : Int32))
            (fun j15 => (wr y14b 28 18 (((3 : Int32) * s8b) + (1 : Int32)) j15).bind fun g17 =>
            (kF_X3_whole g17).bind fun x18 =>
            (wr g17 28 18 (((3 : Int32) * s8b) + (2 : Int32)) x18).bind fun g19 =>
            some (.inl (g19, (s8b + (1 : Int32))))))) (g4, (0 : Int32)) = some g' ∧ KR g' g' (P n) z 6 ∧ (∀ b, b ≠ 15 → b ≠ 28 → b ≠ 46 → b ≠ 48 → b ≠ 51 → g' b = g4 b) ∧ shR P c (g' 28) n := by
  refine iter_inv (fun i s => ∃ g', s = (g', nI i) ∧ KR g' g' (P i) z 6 ∧ (∀ b, b ≠ 15 → b ≠ 28 → b ≠ 46 → b ≠ 48 → b ≠ 51 → g' b = g4 b) ∧ shR P c (g' 28) i) (fun g' => KR g' g' (P n) z 6 ∧ (∀ b, b ≠ 15 → b ≠ 28 → b ≠ 46 → b ≠ 48 → b ≠ 51 → g' b = g4 b) ∧ shR P c (g' 28) n) n ?_ ?_ n 0 (g4, (0 : Int32)) (by omega) ⟨g4, rfl, k4, fun _ _ _ _ _ _ => rfl, fun k hk => by omega⟩
  · rintro i hi s ⟨g1, rfl, k1, f1, r1⟩
    have hc := (ok i hi).1
    have hP := (ok i hi).2
    have ch := (okC_in hc).1
    have c60 := (chg_in (hW i (by omega)) ch).1
    have hcs := cst_le (ab := 6) (hW i (by omega)) hL ch
    have q1 : g1 17 i = nI (c i) := by
      rw [f1 17 (by decide) (by decide) (by decide) (by decide) (by decide)]
      exact h17 i hi
    have o1 : ∀ x, x ≠ 28 → up2 g1 28 (3 * i) (nI (c i)) x = g1 x := fun x hx => up2_o hx
    obtain ⟨g2, a1, a2, a3⟩ := kw_carry (k1.of (g' := up2 g1 28 (3 * i) (nI (c i))) (fun x a b => o1 x (by omega)) (by rw [o1 0 (by decide)])) (hW i (by omega)) (by omega) (hE i (by omega)) hL hc
    rw [← hP] at a2
    have o2 : ∀ v x, x ≠ 28 → up2 g2 28 (3 * i + 1) v x = g2 x := fun v x hx => up2_o hx
    have k2 : ∀ v, KR (up2 g2 28 (3 * i + 1) v) (up2 g2 28 (3 * i + 1) v) (P (i + 1)) z 6 := fun v => a2.of (fun x a b => o2 v x (by omega)) (by rw [o2 v 0 (by decide)])
    have o3 : ∀ u v x, x ≠ 28 → up2 (up2 g2 28 (3 * i + 1) v) 28 (3 * i + 2) u x = g2 x := fun u v x hx => by rw [up2_o hx, up2_o hx]
    have k3 : ∀ u v, KR (up2 (up2 g2 28 (3 * i + 1) v) 28 (3 * i + 2) u) (up2 (up2 g2 28 (3 * i + 1) v) 28 (3 * i + 2) u) (P (i + 1)) z 6 := fun u v => a2.of (fun x a b => o3 u v x (by omega)) (by rw [o3 u v 0 (by decide)])
    dsimp only [un2]
    rw [if_neg (show ¬ nI n ≤ nI i from nI_ge hi (by omega)), rd_n (by omega) (by decide), Option.bind_some, q1, show (3 : Int32) = nI 3 from rfl, pk_mul, wr_n (by omega) (by decide), Option.bind_some, rd_n (by omega) (by decide), Option.bind_some, o1 17 (by decide), q1, a1, Option.bind_some]
    dsimp only [un2]
    rw [if_pos (nI_pos' (by omega)), kw_purse a2 (hW (i + 1) (by omega)), Option.bind_some, Option.bind_some, show (1 : Int32) = nI 1 from rfl, show (2 : Int32) = nI 2 from rfl, nI_add, nI_add, nI_add, wr_n (by omega) (by decide), Option.bind_some, kw_whole (k2 _) (hW (i + 1) (by omega)), Option.bind_some, wr_n (by omega) (by decide), Option.bind_some]
    refine ⟨_, rfl, _, rfl, k3 _ _, fun b n1 n2 n3 n4 n5 => ?_, fun k hk => ?_⟩
    · rw [o3 _ _ b n2, a3 b n1 n3 n4 n5, o1 b n2]
      exact f1 b n1 n2 n3 n4 n5
    · have e28 : g2 28 = up2 g1 28 (3 * i) (nI (c i)) 28 := a3 28 (by decide) (by decide) (by decide) (by decide)
      rw [up2_row, up2_row, e28, up2_row]
      by_cases e : k = i
      · subst e
        rw [pk_un (by omega), pk_un (by omega), pk_us, pk_un (by omega), pk_us, pk_us]
        exact ⟨rfl, rfl, rfl⟩
      · rw [pk_un (by omega), pk_un (by omega), pk_un (by omega), pk_un (by omega), pk_un (by omega), pk_un (by omega), pk_un (by omega), pk_un (by omega), pk_un (by omega)]
        exact r1 k (by omega)
  · rintro s ⟨g1, rfl, k1, f1, r1⟩
    refine ⟨g1, ?_, k1, f1, r1⟩
    dsimp only [un2]
    rw [if_pos (nI_le (Nat.le_refl _) (by omega))]
theorem tw_shown {n : Nat} {P : Nat → Tn} {c : Nat → Nat} (hL : LOK L) (hU : UR U L en) (hW : ∀ k, k ≤ n → WF (P k)) (ok : ∀ k, k < n → okC L (P k) 6 (c k) = true ∧ P (k + 1) = doT L (P k) 6 (c k)) (n6 : n ≤ 6) {h4 : St} (k4 : TR h4 h4 (P 0) z U 6) (h24 : h4 0 24 = nI n) (h10 : ∀ k, k < n → h4 10 k = nI (c k)) : ∃ h', iter (L := St × Int32) (T := St) (un2 fun s7a s7b =>
        if (s7a 0 24) ≤ s7b then
          some (.inr s7a)
        else
          (rd (s7a 10) 6 s7b).bind fun x10 =>
          (tF_does s7a x10).bind fun g11 =>
          (rd (g11 10) 6 s7b).bind fun x12 =>
          (wr g11 24 18 ((3 : Int32) * s7b) x12).bind fun g13 =>
          (tF_coinsAll g13).bind fun x14 =>
          (wr g13 24 18 (((3 : Int32) * s7b) + (1 : Int32)) x14).bind fun g15 =>
          (tF_wholeSet g15).bind fun x16 =>
          (wr g15 24 18 (((3 : Int32) * s7b) + (2 : Int32)) x16).bind fun g17 =>
          some (.inl (g17, (s7b + (1 : Int32))))) (h4, (0 : Int32)) = some h' ∧ TR h' h' (P n) z U 6 ∧ (∀ b, b ≠ 0 → b ≠ 1 → b ≠ 6 → b ≠ 24 → h' b = h4 b) ∧ (∀ i, i ≠ 6 → i ≠ 7 → h' 0 i = h4 0 i) ∧ shR P c (h' 24) n := by
  refine iter_inv (fun i s => ∃ h', s = (h', nI i) ∧ TR h' h' (P i) z U 6 ∧ (∀ b, b ≠ 0 → b ≠ 1 → b ≠ 6 → b ≠ 24 → h' b = h4 b) ∧ (∀ i, i ≠ 6 → i ≠ 7 → h' 0 i = h4 0 i) ∧ shR P c (h' 24) i) (fun h' => TR h' h' (P n) z U 6 ∧ (∀ b, b ≠ 0 → b ≠ 1 → b ≠ 6 → b ≠ 24 → h' b = h4 b) ∧ (∀ i, i ≠ 6 → i ≠ 7 → h' 0 i = h4 0 i) ∧ shR P c (h' 24) n) n ?_ ?_ n 0 (h4, (0 : Int32)) (by omega) ⟨h4, rfl, k4, fun _ _ _ _ _ => rfl, fun _ _ _ => rfl, fun k hk => by omega⟩
  · rintro i hi s ⟨g1, rfl, k1, f1, f0, r1⟩
    have hc := (ok i hi).1
    have hP := (ok i hi).2
    have q1 : g1 10 i = nI (c i) := by
      rw [f1 10 (by decide) (by decide) (by decide) (by decide)]
      exact h10 i hi
    obtain ⟨g2, a1, a2, a3, a4, a5, a6⟩ := tw_does k1 (hW i (by omega)) (by omega) hU hL hc
    rw [← hP] at a2
    have w1 := hW (i + 1) (by omega)
    have o1 : ∀ v x, x ≠ 24 → up2 g2 24 (3 * i) v x = g2 x := fun v x hx => up2_o hx
    have k2 : ∀ v, TR (up2 g2 24 (3 * i) v) (up2 g2 24 (3 * i) v) (P (i + 1)) z U 6 := fun v => a2.of (o1 v 1 (by decide)) (by rw [o1 v 0 (by decide)])
    have o2 : ∀ u v x, x ≠ 24 → up2 (up2 g2 24 (3 * i) v) 24 (3 * i + 1) u x = g2 x := fun u v x hx => by rw [up2_o hx, up2_o hx]
    have k3 : ∀ u v, TR (up2 (up2 g2 24 (3 * i) v) 24 (3 * i + 1) u) (up2 (up2 g2 24 (3 * i) v) 24 (3 * i + 1) u) (P (i + 1)) z U 6 := fun u v => a2.of (o2 u v 1 (by decide)) (by rw [o2 u v 0 (by decide)])
    have o3 : ∀ t u v x, x ≠ 24 → up2 (up2 (up2 g2 24 (3 * i) v) 24 (3 * i + 1) u) 24 (3 * i + 2) t x = g2 x := fun t u v x hx => by rw [up2_o hx, up2_o hx, up2_o hx]
    have k4' : ∀ t u v, TR (up2 (up2 (up2 g2 24 (3 * i) v) 24 (3 * i + 1) u) 24 (3 * i + 2) t) (up2 (up2 (up2 g2 24 (3 * i) v) 24 (3 * i + 1) u) 24 (3 * i + 2) t) (P (i + 1)) z U 6 := fun t u v => a2.of (o3 t u v 1 (by decide)) (by rw [o3 t u v 0 (by decide)])
    dsimp only [un2]
    rw [if_neg (show ¬ g1 0 24 ≤ nI i by rw [f0 24 (by decide) (by decide), h24]; exact nI_ge hi (by omega)), rd_n (by omega) (by decide), Option.bind_some, q1, a1, Option.bind_some, rd_n (by omega) (by decide), Option.bind_some, a5 10 (by decide) (by decide) (by decide), q1, show (3 : Int32) = nI 3 from rfl, pk_mul, wr_n (by omega) (by decide), Option.bind_some, tw_coinsAll (k2 _) w1, Option.bind_some, show (1 : Int32) = nI 1 from rfl, show (2 : Int32) = nI 2 from rfl, nI_add, nI_add, nI_add, wr_n (by omega) (by decide), Option.bind_some, tw_wholeSet (k3 _ _) w1 (by omega), Option.bind_some, wr_n (by omega) (by decide), Option.bind_some]
    refine ⟨_, rfl, _, rfl, k4' _ _ _, fun b n1 n2 n3 n4 => ?_, fun b n1 n2 => ?_, fun k hk => ?_⟩
    · rw [o3 _ _ _ b n4, a5 b n1 n2 n3]
      exact f1 b n1 n2 n3 n4
    · rw [o3 _ _ _ 0 (by decide), a6 b n1 n2]
      exact f0 b n1 n2
    · have e24 : g2 24 = g1 24 := a5 24 (by decide) (by decide) (by decide)
      rw [up2_row, up2_row, up2_row, e24]
      by_cases e : k = i
      · subst e
        rw [pk_un (by omega), pk_un (by omega), pk_us, pk_un (by omega), pk_us, pk_us]
        exact ⟨rfl, rfl, rfl⟩
      · rw [pk_un (by omega), pk_un (by omega), pk_un (by omega), pk_un (by omega), pk_un (by omega), pk_un (by omega), pk_un (by omega), pk_un (by omega), pk_un (by omega)]
        exact r1 k (by omega)
  · rintro s ⟨g1, rfl, k1, f1, f0, r1⟩
    refine ⟨g1, ?_, k1, f1, f0, r1⟩
    dsimp only [un2]
    rw [if_pos (show g1 0 24 ≤ nI n by rw [f0 24 (by decide) (by decide), h24]; exact nI_le (Nat.le_refl _) (by omega))]
theorem path_ok {n : Nat} {P : Nat → Tn} {c : Nat → Nat} (w : WF (P 0)) (hE : ER E L (P 0)) (ok : ∀ k, k < n → okC L (P k) 6 (c k) = true ∧ P (k + 1) = doT L (P k) 6 (c k)) : ∀ k, k ≤ n → WF (P k) ∧ ER E L (P k)
  | 0, _ => ⟨w, hE⟩
  | k + 1, hk => by
    obtain ⟨a, b⟩ := path_ok w hE ok k (by omega)
    obtain ⟨c1, c2⟩ := ok k (by omega)
    rw [c2]
    exact ⟨do_WF a c1, do_ER a b c1⟩
/-- both answer alike; the component's references r may be those or these -/
def PbR (E : EE) (L : RLt) (U : Nat → Int32) (en : Nat → Nat) (Tk : Tn) (zk : Int32) (Uk : Nat → Int32) (h : St) (ρ : Rf) (rk : Option (Int32 × St × Rf)) (rt : Option (Int32 × St)) : Prop := ∃ r g' h' T' z' ρ', rk = some (r, g', ρ') ∧ (ρ' = ρ ∨ ρ' = upR ρ 0 2 (ρ 0 0)) ∧ rt = some (r, h') ∧ JT E L U en g' h' T' z' g' h' ∧ PRS g' h' Tk zk Uk ∧ ∀ b, 34 ≤ b → b < 40 → h' b = h b
theorem pb_prove (j : JT E L U en g h T z g h) (s : PRS g h Tk zk Uk) (ρ : Rf) : PbR E L U en Tk zk Uk h ρ (kF_prove E ρ g) (tF_prove h) := by
  obtain ⟨g1, r1, r2, r3⟩ := kw_few (m := 6) j.hL (by omega) j.w (Or.inr rfl) j.hE j.k
  obtain ⟨h1, s1, s2, s3⟩ := tw_goesAll (m := 6) j.hU j.hL (by omega) j.w (Or.inr rfl) j.t
  unfold kF_prove tF_prove
  rw [show (6 : Int32) = nI 6 from rfl, r1, s1, Option.bind_some, Option.bind_some]
  dsimp only [un2]
  have s4 := s3.2.2.2.1
  rw [acc_few] at s4
  cases q : few L 6 6 T with
  | none =>
    rw [q] at s4
    have s4 : h1 0 13 = -1 := s4
    rw [if_neg (show ¬ (0 : Int32) ≤ flI none by decide), if_neg (show ¬ (0 : Int32) ≤ h1 0 13 by rw [s4]; decide)]
    have jj := j.new r2 s2
    exact ⟨_, g1, h1, T, z, ρ, rfl, Or.inl rfl, rfl, jj.re, s.go jj.k.kK jj.t.tK, fun b a c => by funext i; exact jj.t.tK b i (ts3 i a c)⟩
  | some r =>
    rw [q] at s4
    obtain ⟨s5, s6, s7⟩ := s4
    have r4 := r3 r q
    obtain ⟨n6, P, P0, ok⟩ := few_path q
    have hok : ∀ k, k < r.length → okC L (P k) 6 ((fun k => r.getD k 0) k) = true ∧ P (k + 1) = doT L (P k) 6 ((fun k => r.getD k 0) k) := ok
    have pk := path_ok (n := r.length) (c := fun k => r.getD k 0) (by rw [P0]; exact j.w) (by rw [P0]; exact j.hE) hok
    rw [show flI (some r) = nI r.length from rfl, if_pos (nI_pos' (by omega)), if_pos (show (0 : Int32) ≤ h1 0 13 by rw [s5]; exact nI_pos' (by omega))]
    obtain ⟨g2, a1, a2⟩ := bec53 g1
    have k2 := r2.tried a2
    have ko : KO 40 g2 T z := KO.into (off := 40) r2 a2
    have o4 : ∀ x, x ≠ 0 → up2 g2 0 28 (nI r.length) x = g2 x := fun x hx => up2_o hx
    have k4 : KR (up2 g2 0 28 (nI r.length)) (up2 g2 0 28 (nI r.length)) (P 0) z 6 := by
      rw [P0]
      exact k2.of (fun x a b => o4 x (by omega)) (by rw [up2_row, pk_un (by decide)])
    obtain ⟨g5, b1, b2, b3, b4⟩ := kw_shown (c := fun k => r.getD k 0) j.hL (fun k hk => (pk k hk).2) (fun k hk => (pk k hk).1) hok n6 k4 (fun k hk => by
      rw [o4 17 (by decide), a2.1 17 (by omega)]
      exact row_get r4 hk)
    obtain ⟨g6, c1, c2⟩ := bec35 g5
    have ko5 : KO 40 g5 T z := by
      refine ⟨fun i x y w => ?_, ?_⟩
      · have := km_b i x
        rw [b3 _ (by omega) (by omega) (by omega) (by omega) (by omega), o4 _ (by omega)]
        exact ko.1 i x y w
      · rw [b3 _ (by omega) (by omega) (by omega) (by omega) (by omega), o4 _ (by omega)]
        exact ko.2
    have k6 := KR.from (off := 40) b2 ko5 c2
    obtain ⟨h2, d1, d2, d3, d4⟩ := tw_puts s2
    have o5 : ∀ x, x ≠ 0 → up2 h2 0 24 (nI r.length) x = h2 x := fun x hx => up2_o hx
    have t4 : TR (up2 h2 0 24 (nI r.length)) (up2 h2 0 24 (nI r.length)) (P 0) z U 6 := by
      rw [P0]
      exact d2.of (o5 1 (by decide)) (by rw [up2_row, pk_un (by decide)])
    obtain ⟨h5, e1, e2, e3, e4, e5⟩ := tw_shown (c := fun k => r.getD k 0) j.hL j.hU (fun k hk => (pk k hk).1) hok n6 t4 (by rw [up2_row, pk_us]) (fun k hk => by
      rw [o5 10 (by decide), d3 10 (by decide)]
      exact row_get s7 hk)
    obtain ⟨h6, f1, f2, f3⟩ := tw_putsBack e2 (TR.mix e2 s2) (fun i hi => by
      show h5 3 i = h1 1 i
      rw [e3 3 (by decide) (by decide) (by decide) (by decide), o5 3 (by decide)]
      exact d4 i hi)
    have e24 : h6 0 24 = nI r.length := by
      rw [f3 0 (by decide), e4 24 (by decide) (by decide), up2_row, pk_us]
    refine ⟨nI r.length, g6, h6, T, z, upR ρ 0 2 (ρ 0 0), ?_, Or.inr rfl, ?_, ⟨j.1, j.2.1, j.hL, j.hE, j.hU, k6.re, f2.re⟩, ?_, fun b x y => ?_⟩
    · rw [a1, Option.bind_some, show pf g2 0 28 (nI r.length) = some (up2 g2 0 28 (nI r.length)) from rfl, Option.bind_some]
      refine Eq.trans (congrArg (fun x => Option.bind x _) b1) ?_
      rw [Option.bind_some, c1]
      rfl
    · rw [d1, Option.bind_some]
      show (pf h2 0 24 (h2 0 13)).bind _ = _
      rw [show h2 0 13 = nI r.length by rw [d3 0 (by decide)]; exact s5, show pf h2 0 24 (nI r.length) = some (up2 h2 0 24 (nI r.length)) from rfl, Option.bind_some]
      refine Eq.trans (congrArg (fun x => Option.bind x _) e1) ?_
      rw [Option.bind_some, f1, Option.bind_some, e24]
    · have gK : ∀ b i, kS b i = false → g2 b i = g b i := k2.kK
      have hK : ∀ b i, tS b i = false → h2 b i = h b i := d2.tK
      have gg : ∀ b i, b ≠ 0 → ¬ (40 ≤ b ∧ b < 60) → b ≠ 15 → b ≠ 28 → kS b i = false → g6 b i = g b i := fun b i n0 n1 n2 n3 hs => by
        rw [c2.1 b (by omega), b3 b n2 n3 (by omega) (by omega) (by omega), o4 b n0]
        exact gK b i hs
      have g0' : ∀ i, i ≠ 28 → kS 0 i = false → g6 0 i = g 0 i := fun i n0 hs => by
        rw [c2.1 0 (by omega), b3 0 (by decide) (by decide) (by decide) (by decide) (by decide), up2_row, pk_un n0]
        exact gK 0 i hs
      have hh : ∀ b i, b ≠ 0 → b ≠ 1 → b ≠ 6 → b ≠ 24 → tS b i = false → h6 b i = h b i := fun b i n0 n1 n2 n3 hs => by
        rw [f3 b n1, e3 b n0 n1 n2 n3, o5 b n0]
        exact hK b i hs
      have h0' : ∀ i, i ≠ 24 → i ≠ 6 → i ≠ 7 → tS 0 i = false → h6 0 i = h 0 i := fun i n0 n1 n2 hs => by
        rw [f3 0 (by decide), e4 i n1 n2, up2_row, pk_un n0]
        exact hK 0 i hs
      refine s.of (fun b hb => ?_) (g0' 11 (by decide) rfl) (g0' 6 (by decide) rfl) (fun b hb => ?_) (h0' 26 (by decide) (by decide) (by decide) rfl) (h0' 40 (by decide) (by decide) (by decide) rfl) (h0' 3 (by decide) (by decide) (by decide) rfl) ⟨r.length, n6, ?_, e24, fun i hi => ?_⟩
      · funext i
        refine gg b i (by omega) (by omega) (by omega) (by omega) ?_
        rcases hb with e | e | e | e
        · subst e; exact ks11 i
        · subst e; exact ks32 i
        · subst e; exact ks33 i
        · exact ks6 i e.1 e.2
      · funext i
        refine hh b i (by omega) (by omega) (by omega) (by omega) ?_
        rcases hb with e | e | e
        · subst e; exact ts2 i
        · subst e; exact ts26 i
        · subst e; exact ts40 i
      · rw [c2.1 0 (by omega), b3 0 (by decide) (by decide) (by decide) (by decide) (by decide), up2_row, pk_us]
      · rw [c2.1 28 (by omega), f3 24 (by decide)]
        have x1 := b4 (i / 3) (by omega)
        have x2 := e5 (i / 3) (by omega)
        rcases (show i = 3 * (i / 3) ∨ i = 3 * (i / 3) + 1 ∨ i = 3 * (i / 3) + 2 by omega) with e | e | e
        · rw [e, x1.1, x2.1]
        · rw [e, x1.2.1, x2.2.1]
        · rw [e, x1.2.2, x2.2.2]
    · funext i
      rw [f3 b (by omega), e3 b (by omega) (by omega) (by omega) (by omega), o5 b (by omega)]
      exact d2.tK b i (ts3 i x y)
end PRV
