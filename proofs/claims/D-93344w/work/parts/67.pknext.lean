/-! the component's tokens -/
set_option maxRecDepth 100000
def sb (b : Nat) : Int32 := (nI b).toInt8.toInt32
theorem sb_L : ∀ b, b < 256 → kF_isLetter (sb b) = zI (isLb b) := by decide +kernel
theorem sb_D : ∀ b, b < 256 → kF_isDigit (sb b) = zI (isDb b) := by decide +kernel
theorem sb_int : ∀ b, b < 256 → (sb b).toInt = if b < 128 then (b : Int) else (b : Int) - 256 := by decide +kernel
theorem sb_eq {b c : Nat} (hb : b < 256) (hc : c < 128) : sb b = nI c ↔ b = c := by
  have h1 := sb_int b hb
  have h2 := nI_toInt (n := c) (by omega)
  constructor
  · intro e
    rw [e, h2] at h1
    split at h1 <;> omega
  · intro e
    subst e
    rw [if_pos hc] at h1
    exact Int32.toInt_inj.mp (by rw [h1, h2])
theorem LD_x (b : Nat) (h : isLb b = true) : isDb b = false := by
  unfold isLb at h
  unfold isDb
  simp at h ⊢
  omega
def PT (g : St) (n : Nat) (tp : Nat → Nat) : Prop := n ≤ 200 ∧ g 0 11 = nI n ∧ ∀ i, i < n → tp i < 256 ∧ g 11 i = sb (tp i)
/-- the token from a to e -/
def pS (g : St) (a e : Nat) : St := up2 (up2 g 0 12 (nI a)) 0 13 (nI e)
theorem pS_o {g : St} {a e b : Nat} (h : b ≠ 0) : pS g a e b = g b := by
  unfold pS
  rw [up2_o h, up2_o h]
theorem pS_0 {g : St} {a e i : Nat} (h1 : i ≠ 12) (h2 : i ≠ 13) : pS g a e 0 i = g 0 i := by
  unfold pS
  rw [up2_row, pk_un h2, up2_row, pk_un h1]
theorem pS_a {g : St} {a e : Nat} : pS g a e 0 12 = nI a := by
  unfold pS
  rw [up2_row, pk_un (by decide), up2_row, pk_us]
theorem pS_e {g : St} {a e : Nat} : pS g a e 0 13 = nI e := by
  unfold pS
  rw [up2_row, pk_us]
theorem st_ext {g h : St} (e : ∀ b i, g b i = h b i) : g = h := funext fun b => funext fun i => e b i
theorem pS_pS {g : St} {a e a' e' : Nat} : up2 (up2 (pS g a e) 0 12 (nI a')) 0 13 (nI e') = pS g a' e' := by
  refine st_ext fun b i => ?_
  by_cases hb : b = 0
  · subst hb
    by_cases h3 : i = 13
    · subst h3
      rw [up2_row, pk_us, pS_e]
    · rw [up2_row, pk_un h3]
      by_cases h2 : i = 12
      · subst h2
        rw [up2_row, pk_us, pS_a]
      · rw [up2_row, pk_un h2, pS_0 h2 h3, pS_0 h2 h3]
  · rw [up2_o hb, up2_o hb, pS_o hb, pS_o hb]
theorem pS_self {g : St} {a e : Nat} (h1 : g 0 12 = nI a) (h2 : g 0 13 = nI e) : pS g a e = g := by
  refine st_ext fun b i => ?_
  by_cases hb : b = 0
  · subst hb
    by_cases h3 : i = 13
    · subst h3
      rw [pS_e, h2]
    · by_cases h4 : i = 12
      · subst h4
        rw [pS_a, h1]
      · rw [pS_0 h4 h3]
  · rw [pS_o hb]
theorem iter_nxt {T : Type} {body : Int32 → Option (Int32 ⊕ T)} (n : Nat) (P : Nat → Bool) (out : Nat → T) (hs : ∀ k, k < n → body (nI k) = if P k = true then some (.inr (out k)) else some (.inl (nI (k + 1)))) (he : body (nI n) = some (.inr (out n))) : ∀ m k, k + m = n → iter body (nI k) = some (out (nx P m k))
  | 0, k, e => by
    have e : k = n := by omega
    subst e
    exact iter_done he
  | m + 1, k, e => by
    have h := hs k (by omega)
    unfold nx
    by_cases q : P k = true
    · rw [if_pos q] at h ⊢
      exact iter_done h
    · rw [if_neg q] at h ⊢
      rw [iter_step h]
      exact iter_nxt n P out hs he m (k + 1) (by omega)
theorem nx_t {P : Nat → Bool} {k c : Nat} (h : ∀ i, P i = true) : nx P k c = c := by
  cases k with
  | zero => rfl
  | succ k =>
    unfold nx
    rw [if_pos (h c)]
section PKN
variable {g : St} {n : Nat} {tp : Nat → Nat}
theorem PT.pS (t : PT g n tp) (a e : Nat) : PT (pS g a e) n tp := by
  refine ⟨t.1, by rw [pS_0 (by decide) (by decide)]; exact t.2.1, fun i hi => ?_⟩
  rw [pS_o (by decide)]
  exact t.2.2 i hi
theorem kw_next (t : PT g n tp) {a e : Nat} (he : e ≤ n) : kF_next (pS g a e) = some (pS g (tok n tp e).1 (tok n tp e).2) := by
  have n2 := t.1
  have hA := tkA_bd tp he
  have t1 := t.pS a e
  unfold kF_next
  rw [pS_e]
  have l1 : iter (L := Int32) (T := Int32) (fun s63 =>
      if (pS g a e 0 11) ≤ s63 then
        some (.inr s63)
      else
        (rd (pS g a e 11) 200 s63).bind fun x66 =>
        if x66 = (32 : Int32) then
          some (.inl (s63 + (1 : Int32)))
        else
          some (.inr s63)) (nI e) = some (nI (tkA n tp e)) := by
    refine iter_nxt n (fun i => !(tp i == 32)) (fun k => nI k) (fun k hk => ?_) ?_ (n - e) e (by omega)
    · rw [if_neg (show ¬ pS g a e 0 11 ≤ nI k by rw [t1.2.1]; exact nI_ge hk (by omega)), rd_n (by omega) (by decide), Option.bind_some, (t1.2.2 k hk).2, nI_1]
      have hh : sb (tp k) = 32 ↔ tp k = 32 := sb_eq (c := 32) (t1.2.2 k hk).1 (by omega)
      by_cases q : tp k = 32
      · rw [if_pos (hh.mpr q), if_neg (by simp [q])]
      · rw [if_neg (fun z => q (hh.mp z)), if_pos (by simp [q])]
    · rw [if_pos (show pS g a e 0 11 ≤ nI n by rw [t1.2.1]; exact nI_le (Nat.le_refl _) (by omega))]
  refine Eq.trans (congrArg (fun x => Option.bind x _) l1) ?_
  rw [Option.bind_some, show pf (pS g a e) 0 12 (nI (tkA n tp e)) = some (up2 (pS g a e) 0 12 (nI (tkA n tp e))) from rfl, Option.bind_some]
  have r11 : up2 (pS g a e) 0 12 (nI (tkA n tp e)) 11 = pS g a e 11 := up2_o (by decide)
  have r0 : up2 (pS g a e) 0 12 (nI (tkA n tp e)) 0 11 = nI n := by
    rw [up2_row, pk_un (by decide)]
    exact t1.2.1
  have fin : ∀ E, pf (up2 (pS g a e) 0 12 (nI (tkA n tp e))) 0 13 (nI E) = some (pS g (tkA n tp e) E) := fun E => by
    rw [show pf (up2 (pS g a e) 0 12 (nI (tkA n tp e))) 0 13 (nI E) = some (up2 (up2 (pS g a e) 0 12 (nI (tkA n tp e))) 0 13 (nI E)) from rfl, pS_pS]
  unfold tok
  generalize up2 (pS g a e) 0 12 (nI (tkA n tp e)) = g3 at r11 r0 fin
  generalize tkA n tp e = A at hA fin
  rw [r0, il (by omega) (by omega), il (by omega) (by omega)]
  by_cases q : n ≤ A
  · have eA : A = n := by omega
    subst eA
    rw [if_pos q, if_pos q, Option.bind_some, Option.bind_some, if_pos (nI_le q (by omega))]
    have eE : tkE A tp A = A := by
      unfold tkE
      rw [if_neg (by omega)]
    show iter _ _ = some (pS g A (tkE A tp A))
    rw [eE]
    refine iter_done ?_
    rw [if_pos (show nI A ≤ nI A from nI_le (Nat.le_refl _) (by omega)), fin]
    rfl
  · have hAn : A < n := by omega
    have hb := t1.2.2 A hAn
    rw [if_neg q, if_neg q, r11, rd_n (by omega) (by decide), Option.bind_some, Option.bind_some, hb.2, sb_L _ hb.1, sb_D _ hb.1, nI_1]
    have key : ∀ (x4 x6 : Int32), x4 = zI (isLb (tp A)) → x6 = zI (isDb (tp A)) → iter (L := Int32) (T := St) (fun s30 =>
            if nI n ≤ s30 then
              (pf g3 0 13 s30).bind fun g32 =>
              some (.inr g32)
            else
              jn (S := Unit) (T := ((Int32) ⊕ (St)))
                (if x4 = 0 then
                  some (.inl ())
                else
                  (rd (pS g a e 11) 200 s30).bind fun x44 =>
                  if (kF_isLetter x44) = 0 then
                    some (.inl ())
                  else
                    some (.inr (.inl (s30 + (1 : Int32)))))
                (fun j34 => if x6 = 0 then
                  (pf g3 0 13 s30).bind fun g36 =>
                  some (.inr g36)
                else
                  (rd (pS g a e 11) 200 s30).bind fun x38 =>
                  if (kF_isDigit x38) = 0 then
                    (pf g3 0 13 s30).bind fun g40 =>
                    some (.inr g40)
                  else
                    some (.inl (s30 + (1 : Int32))))) (nI (A + 1)) = some (pS g A (tkE n tp A)) := by
      intro x4 x6 e4 e6
      have eE : tkE n tp A = nx (fun k => !(isLb (tp A) && isLb (tp k) || isDb (tp A) && isDb (tp k))) (n - (A + 1)) (A + 1) := by
        unfold tkE
        rw [if_pos hAn]
        by_cases hL : isLb (tp A) = true
        · rw [if_pos hL]
          refine nx_cong _ _ (fun i _ _ => ?_)
          rw [hL, LD_x _ hL]
          simp
        · rw [if_neg hL]
          have hL0 : isLb (tp A) = false := by simpa using hL
          by_cases hD : isDb (tp A) = true
          · rw [if_pos hD]
            refine nx_cong _ _ (fun i _ _ => ?_)
            rw [hL0, hD]
            simp
          · rw [if_neg hD]
            have hD0 : isDb (tp A) = false := by simpa using hD
            rw [nx_t]
            intro i
            rw [hL0, hD0]
            rfl
      rw [eE]
      refine iter_nxt n (fun k => !(isLb (tp A) && isLb (tp k) || isDb (tp A) && isDb (tp k))) (fun k => pS g A k) (fun k hk => ?_) ?_ (n - (A + 1)) (A + 1) (by omega)
      · have hk2 := t1.2.2 k hk
        rw [if_neg (show ¬ nI n ≤ nI k from nI_ge hk (by omega)), rd_n (by omega) (by decide), Option.bind_some, Option.bind_some, hk2.2, sb_L _ hk2.1, sb_D _ hk2.1, fin, nI_1, e4, e6, iz, iz, iz, iz]
        cases isLb (tp A) <;> cases isDb (tp A) <;> cases isLb (tp k) <;> cases isDb (tp k) <;> rfl
      · rw [if_pos (nI_le (Nat.le_refl _) (by omega)), fin]
        rfl
    have e4 : ∀ b : Bool, (if zI b = 0 then some (0 : Int32) else some 1) = some (zI b) := fun b => by cases b <;> rfl
    rw [e4, Option.bind_some, e4, Option.bind_some, if_neg (nI_ge hAn (by omega))]
    exact key _ _ rfl rfl
end PKN
