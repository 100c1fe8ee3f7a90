/-! WHAT IS ASKED: goes on both sides -/
set_option maxRecDepth 100000
/-- load of people together -/
def grpF (m : Nat → Int32) (S : Int32) : Int32 := smF (fun p => if isF S (nI p) = true then loadF m (nI p) else 0) (nP m)
def omin : Option Nat → Option Nat → Option Nat
  | none, b => b
  | some a, none => some a
  | some a, some b => some (min a b)
def oinc : Option Nat → Option Nat
  | none => none
  | some n => some (n + 1)
def gStep (m : Nat → Int32) (t : Nat → Option Nat) (s p : Nat) (b : Option Nat) : Option Nat := if grpF m (nI p) ≤ m 6 then omin b (oinc (t (s ^^^ p))) else b
def gLoop (m : Nat → Int32) (t : Nat → Option Nat) (s : Nat) : Nat → Nat → Option Nat → Option Nat
  | 0, _, b => b
  | n + 1, p, b => if p = 0 then b else gLoop m t s n ((p - 1) &&& s) (gStep m t s p b)
/-- in how many goes so many are across: the first so many sets -/
def gTab (m : Nat → Int32) : Nat → Nat → Option Nat
  | 0 => fun _ => none
  | s + 1 => fun k => if k = s then (if s = 0 then some 0 else gLoop m (gTab m s) s s s none) else gTab m s k
def goesF (m : Nat → Int32) : Int32 := nonV (gTab m (2 ^ nP m) (2 ^ nP m - 1))
def inS (p s : Nat) : Prop := p &&& s = p
theorem inS_le {p s : Nat} (h : inS p s) : p ≤ s := by
  have : p &&& s ≤ s := Nat.and_le_right
  unfold inS at h
  omega
theorem inS_bit {p s : Nat} (h : inS p s) (i : Nat) : p.testBit i = true → s.testBit i = true := by
  intro e
  have := congrArg (fun z => Nat.testBit z i) h
  simp only [Nat.testBit_and] at this
  rw [e] at this
  simpa using this
theorem inS_next {p s : Nat} : inS ((p - 1) &&& s) s := by
  unfold inS
  rw [Nat.and_assoc, Nat.and_self]
theorem xor_lt {p s : Nat} (h : inS p s) (hp : 0 < p) : s ^^^ p < s := by
  have hs : inS (s ^^^ p) s := by
    apply Nat.eq_of_testBit_eq
    intro i
    have := inS_bit h i
    rw [Nat.testBit_and, Nat.testBit_xor]
    revert this
    cases s.testBit i <;> cases p.testBit i <;> simp
  have := inS_le hs
  have hne : s ^^^ p ≠ s := by
    intro e
    have : s ^^^ (s ^^^ p) = s ^^^ s := by rw [e]
    rw [← Nat.xor_assoc, Nat.xor_self, Nat.zero_xor] at this
    omega
  omega
theorem xor_I {p s : Nat} (h : inS p s) : nI s &&& (nI p ^^^ (-1)) = nI (s ^^^ p) := by
  apply tb_ext
  intro i hi
  have := inS_bit h i
  rw [tb_and, tb_not _ hi, tb_nI hi, tb_nI hi, tb_nI hi, Nat.testBit_xor]
  revert this
  cases s.testBit i <;> cases p.testBit i <;> simp
theorem and_I (a c : Nat) : nI a &&& nI c = nI (a &&& c) := by
  apply tb_ext
  intro i hi
  rw [tb_and, tb_nI hi, tb_nI hi, tb_nI hi, Nat.testBit_and]
theorem gStep_le {m : Nat → Int32} {t : Nat → Option Nat} {s p : Nat} {b : Option Nat} (ht : ∀ k, k < s → ∀ n, t k = some n → n ≤ k) (hp : inS p s) (h0 : 0 < p) (hb : ∀ n, b = some n → n ≤ s) : ∀ n, gStep m t s p b = some n → n ≤ s := by
  intro n e
  have hx := xor_lt hp h0
  have hx2 := ht _ hx
  unfold gStep at e
  split at e
  · cases b with
    | none =>
      cases et : t (s ^^^ p) with
      | none => rw [et] at e; cases e
      | some a =>
        rw [et] at e
        cases e
        have := hx2 a et
        omega
    | some c =>
      have := hb c rfl
      cases et : t (s ^^^ p) with
      | none => rw [et] at e; cases e; exact this
      | some a =>
        rw [et] at e
        cases e
        have := hx2 a et
        omega
  · exact hb n e
theorem gLoop_le {m : Nat → Int32} {t : Nat → Option Nat} {s : Nat} (ht : ∀ k, k < s → ∀ n, t k = some n → n ≤ k) : ∀ (f p : Nat) (b : Option Nat), inS p s → (∀ n, b = some n → n ≤ s) → ∀ n, gLoop m t s f p b = some n → n ≤ s
  | 0, _, b, _, hb, n, e => hb n e
  | f + 1, p, b, hp, hb, n, e => by
    rw [gLoop] at e
    by_cases z : p = 0
    · rw [if_pos z] at e; exact hb n e
    · rw [if_neg z] at e
      exact gLoop_le ht f _ _ inS_next (gStep_le ht hp (by omega) hb) n e
theorem gTab_le {m : Nat → Int32} : ∀ s k, k < s → ∀ n, gTab m s k = some n → n ≤ k
  | 0, k, h, _, _ => absurd h (Nat.not_lt_zero _)
  | s + 1, k, h, n, e => by
    rw [gTab] at e
    by_cases z : k = s
    · subst z
      simp only [if_true] at e
      by_cases w : k = 0
      · rw [if_pos w] at e; cases e; omega
      · rw [if_neg w] at e
        exact gLoop_le (gTab_le k) _ _ _ (Nat.and_self _) (fun _ q => by cases q) n e
    · simp only [if_neg z] at e
      exact gTab_le s k (by omega) n e
def fulV : Option Nat → Int32
  | none => 2000000000
  | some n => nI n
section
variable {G : am_G} {h : am_H} {x y : Nat} {hi : Bool} {m b g : Nat → Int32} {l : Value}
theorem c_xLoadOf (o : h.1 x = some (.inr (0, xobj x hi))) (q : WA h (x + 1) m b l) (v : VR m) (yb : BY b m) (z : Int32) : Vc G 3 m_X1_loadOf [.ref x, .int z] h (.int (grpF m z)) := by
  have o1 := wa_o q
  have hP := v.pp
  refine wc_in mt_X1_loadOf rfl (L := [.ref x, .int z, am_un, am_un]) rfl ?_
  refine r_push rfl ?_
  refine r_istore_2 rfl ?_
  refine r_push rfl ?_
  refine r_istore_3 rfl ?_
  refine wp_for (nP m) (fun j => [.ref x, .int z, .int (smF (fun p => if isF z (nI p) = true then loadF m (nI p) else 0) j), .int (nI j)]) (fun j hj kont => ?_) ?_
  · rw [smF] at kont
    cases e : isF z (nI j) with
    | true =>
      rw [e, if_pos rfl] at kont
      refine r_iload_3 rfl ?_
      refine r_aload_0 rfl ?_
      refine r_getf rfl (by assumption) (by rfl) ?_
      refine r_getf rfl (by assumption) (by rfl) ?_
      refine r_icgeF rfl (by rw [hP.1]; exact nI_lt hj (by omega)) ?_
      refine r_iload_2 rfl ?_
      refine r_iload_1 rfl ?_
      refine r_iload_3 rfl ?_
      refine r_invP_2 rfl rfl (by decide) (c_has _ _) ?_
      refine r_ifeqF rfl (by rw [e]; decide) ?_
      refine r_aload_0 rfl ?_
      refine r_getf rfl (by assumption) (by rfl) ?_
      refine r_iload_3 rfl ?_
      refine r_invvP_1 rfl (by assumption) rfl rfl (by decide) (c_load q v yb _) ?_
      refine r_goto rfl ?_
      refine r_iadd rfl ?_
      refine r_istore_2 rfl ?_
      refine r_iinc_3 rfl ?_
      refine r_goto rfl ?_
      rw [nI_1]
      exact kont
    | false =>
      rw [e, if_neg (by decide)] at kont
      refine r_iload_3 rfl ?_
      refine r_aload_0 rfl ?_
      refine r_getf rfl (by assumption) (by rfl) ?_
      refine r_getf rfl (by assumption) (by rfl) ?_
      refine r_icgeF rfl (by rw [hP.1]; exact nI_lt hj (by omega)) ?_
      refine r_iload_2 rfl ?_
      refine r_iload_1 rfl ?_
      refine r_iload_3 rfl ?_
      refine r_invP_2 rfl rfl (by decide) (c_has _ _) ?_
      refine r_ifeqT rfl (by rw [e]; rfl) ?_
      refine r_push rfl ?_
      refine r_iadd rfl ?_
      refine r_istore_2 rfl ?_
      refine r_iinc_3 rfl ?_
      refine r_goto rfl ?_
      rw [nI_1]
      exact kont
  · refine r_iload_3 rfl ?_
    refine r_aload_0 rfl ?_
    refine r_getf rfl (by assumption) (by rfl) ?_
    refine r_getf rfl (by assumption) (by rfl) ?_
    refine r_icgeT rfl (by rw [hP.1]; exact Int32.le_refl _) ?_
    refine r_iload_2 rfl ?_
    refine r_iret rfl ?_
    rfl
theorem c_xGoesOf (o : h.1 x = some (.inr (0, xobj x hi))) (q : WA h (x + 1) m b l) (v : VR m) (yb : BY b m) {f : Nat → Int32} (oa : h.1 (x + 71) = some (.inl (0, 64, .inl f))) {t : Nat → Option Nat} {s : Nat} (hs : s < 64) (hf : ∀ k, k < s → f k = farV (t k)) (ht : ∀ k, k < s → ∀ n, t k = some n → n ≤ k) : Vc G 4 m_X1_goesOf [.ref x, .int (nI s)] h (.int (farV (gLoop m t s s s none))) := by
  have o1 := wa_o q
  have loop : ∀ (n p : Nat) (bb : Option Nat), p ≤ n → inS p s → (∀ k, bb = some k → k ≤ s) → Wp G 4 mt_X1_goesOf 6 [.ref x, .int (nI s), .int (farV bb), .int (nI p)] [] h (fun R => R = .inl (some (.int (farV (gLoop m t s n p bb))), h)) := by
    intro n
    induction n with
    | zero =>
      intro p bb hp hi hb
      have : p = 0 := by omega
      subst this
      refine r_iload_3 rfl ?_
      refine r_ifleT rfl (by decide) ?_
      refine r_iload_2 rfl ?_
      refine r_iret rfl ?_
      rfl
    | succ n ih =>
      intro p bb hp hi hb
      rw [gLoop]
      by_cases z : p = 0
      · subst z
        rw [if_pos rfl]
        refine r_iload_3 rfl ?_
        refine r_ifleT rfl (by decide) ?_
        refine r_iload_2 rfl ?_
        refine r_iret rfl ?_
        rfl
      · rw [if_neg z]
        have hle := inS_le hi
        have hx := xor_lt hi (by omega)
        have hstep := gStep_le (m := m) ht hi (by omega) hb
        have nx : (nI p - 1) &&& nI s = nI ((p - 1) &&& s) := by
          rw [show (1 : Int32) = nI 1 from rfl, nI_sub (by omega), and_I]
        have hlt : (p - 1) &&& s ≤ n := by
          have : (p - 1) &&& s ≤ p - 1 := Nat.and_le_left
          omega
        by_cases A : grpF m (nI p) ≤ m 6
        · have es : farV (gStep m t s p bb) = minF (farV bb) (1 + f (s ^^^ p)) := by
            unfold gStep
            rw [if_pos A, hf _ hx]
            have h2 := ht _ hx
            cases et : t (s ^^^ p) with
            | none =>
              cases bb with
              | none => decide
              | some c =>
                have := hb c rfl
                show nI c = minF (nI c) (nI 1 + nI 1000000)
                rw [nI_add, minF_nI (by omega) (by decide), Nat.min_eq_left (by omega)]
            | some a =>
              have := h2 a et
              cases bb with
              | none =>
                show nI (a + 1) = minF (nI 1000000) (nI 1 + nI a)
                rw [nI_add, minF_nI (by decide) (by omega), Nat.min_eq_right (by omega), Nat.add_comm]
              | some c =>
                have := hb c rfl
                show nI (min c (a + 1)) = minF (nI c) (nI 1 + nI a)
                rw [nI_add, minF_nI (by omega) (by omega), Nat.add_comm]
          have := ih ((p - 1) &&& s) (gStep m t s p bb) hlt inS_next hstep
          rw [es] at this
          refine r_iload_3 rfl ?_
          refine r_ifleF rfl (nI_lt (a := 0) (by omega) (by omega)) ?_
          refine r_aload_0 rfl ?_
          refine r_iload_3 rfl ?_
          refine r_invvP_1 rfl (by assumption) rfl rfl (by decide) (c_xLoadOf o q v yb _) ?_
          refine r_aload_0 rfl ?_
          refine r_getf rfl (by assumption) (by rfl) ?_
          refine r_getf rfl (by assumption) (by rfl) ?_
          refine r_icgtF rfl (A) ?_
          refine r_iload_2 rfl ?_
          refine r_push rfl ?_
          refine r_aload_0 rfl ?_
          refine r_getf rfl (by assumption) (by rfl) ?_
          refine r_iload_1 rfl ?_
          refine r_iload_3 rfl ?_
          refine r_push rfl ?_
          refine r_ixor rfl ?_
          refine r_iand rfl ?_
          refine r_iald rfl (oa) (xor_I hi) (show s ^^^ p < 64 by omega) (by first | decide | omega) ?_
          refine r_iadd rfl ?_
          refine r_invP_2 rfl rfl (by decide) (c_min _ _) ?_
          refine r_istore_2 rfl ?_
          refine r_iload_3 rfl ?_
          refine r_push rfl ?_
          refine r_isub rfl ?_
          refine r_iload_1 rfl ?_
          refine r_iand rfl ?_
          refine r_istore_3 rfl ?_
          refine r_goto rfl ?_
          rw [nx]
          exact this
        · have es : gStep m t s p bb = bb := by unfold gStep; rw [if_neg A]
          have := ih ((p - 1) &&& s) (gStep m t s p bb) hlt inS_next hstep
          rw [es] at this ⊢
          refine r_iload_3 rfl ?_
          refine r_ifleF rfl (nI_lt (a := 0) (by omega) (by omega)) ?_
          refine r_aload_0 rfl ?_
          refine r_iload_3 rfl ?_
          refine r_invvP_1 rfl (by assumption) rfl rfl (by decide) (c_xLoadOf o q v yb _) ?_
          refine r_aload_0 rfl ?_
          refine r_getf rfl (by assumption) (by rfl) ?_
          refine r_getf rfl (by assumption) (by rfl) ?_
          refine r_icgtT rfl (Int32.not_le.mp A) ?_
          refine r_iload_3 rfl ?_
          refine r_push rfl ?_
          refine r_isub rfl ?_
          refine r_iload_1 rfl ?_
          refine r_iand rfl ?_
          refine r_istore_3 rfl ?_
          refine r_goto rfl ?_
          rw [nx]
          exact this
  refine wc_in mt_X1_goesOf rfl (L := [.ref x, .int (nI s), am_un, am_un]) rfl ?_
  refine r_push rfl ?_
  refine r_istore_2 rfl ?_
  refine r_iload_1 rfl ?_
  refine r_istore_3 rfl ?_
  exact loop s s none (Nat.le_refl _) (Nat.and_self _) (fun _ e => by cases e)
theorem c_xGoes (hw : HW h) (o : h.1 x = some (.inr (0, xobj x hi))) (q : WA h (x + 1) m b l) (v : VR m) (yb : BY b m) (oa : ∃ f, h.1 (x + 71) = some (.inl (0, 64, .inl f))) : Ev G 5 m_X1_goes [.ref x] h (fun r h' => r = .int (goesF m) ∧ (∃ f, h'.1 (x + 71) = some (.inl (0, 64, .inl f))) ∧ HF (isR (x + 71)) 0 0 h h') := by
  obtain ⟨f0, oa⟩ := oa
  have o1 := wa_o q
  have hP := v.pp
  have p6 : 2 ^ nP m ≤ 64 := Nat.pow_le_pow_right (by decide) hP.2
  have p0 : 0 < 2 ^ nP m := Nat.pow_pos (by decide)
  have eP : (1 : Int32) <<< (m 3 &&& 31) = nI (2 ^ nP m) := by rw [hP.1, sh1 _ (by omega)]
  have eP1 : (1 : Int32) <<< (m 3 &&& 31) - 1 = nI (2 ^ nP m - 1) := by rw [eP, show (1 : Int32) = nI 1 from rfl, nI_sub (by omega)]
  unfold goesF
  refine wc_in mt_X1_goes rfl (L := [.ref x, am_un, am_un]) rfl ?_
  refine r_push rfl ?_
  refine r_aload_0 rfl ?_
  refine r_getf rfl o rfl ?_
  refine r_getf rfl o1 rfl ?_
  refine r_ishl rfl ?_
  refine r_push rfl ?_
  refine r_isub rfl ?_
  rw [eP1]
  refine r_istore_1 rfl ?_
  refine r_aload_0 rfl ?_
  refine r_getf rfl o rfl ?_
  refine r_push rfl ?_
  refine r_push rfl ?_
  refine r_iast rfl oa (show (0 : Int32) = nI 0 from rfl) (by decide) (by decide) ?_
  refine r_push rfl ?_
  refine r_istore_2 rfl ?_
  have F0 : HF (isR (x + 71)) 0 0 h (am_set h (x + 71) (.inl (0, 64, .inl (upd f0 0 0)))) := HF.set hw oa
  have t1 : ∀ k, k < 0 + 1 → upd f0 0 0 k = farV (gTab m (0 + 1) k) := by
    intro k hk
    have : k = 0 := by omega
    subst this
    rfl
  refine wp_forHK (2 ^ nP m - 1) (fun j => [.ref x, .int (nI (2 ^ nP m - 1)), .int (nI (j + 1))]) (fun j h' => (∃ f, h'.1 (x + 71) = some (.inl (0, 64, .inl f)) ∧ ∀ k, k < j + 1 → f k = farV (gTab m (j + 1) k)) ∧ HF (isR (x + 71)) 0 0 h h') (fun j h' hj hK kont => ?_) (fun h' hK => ?_) ⟨⟨_, am_set_at, t1⟩, F0⟩
  · obtain ⟨⟨f, of, ef⟩, F⟩ := hK
    have o' := F.k o (by simp only [isR]; omega)
    have q' := q.keep F (fun a z => by simp only [isR] at z; omega)
    refine r_iload_2 rfl ?_
    refine r_iload_1 rfl ?_
    refine r_icgtF rfl (nI_le (by omega) (by omega)) ?_
    refine r_aload_0 rfl ?_
    refine r_getf rfl o' rfl ?_
    refine r_iload_2 rfl ?_
    refine r_aload_0 rfl ?_
    refine r_iload_2 rfl ?_
    refine r_invvP_1 rfl o' rfl rfl (by decide) (c_xGoesOf o' q' v yb of (t := gTab m (j + 1)) (s := j + 1) (by omega) ef (gTab_le _)) ?_
    refine r_iast rfl of rfl (show j + 1 < 64 by omega) (by decide) ?_
    refine r_iinc_2 rfl ?_
    refine r_goto rfl ?_
    rw [nI_1]
    refine kont _ ⟨⟨_, am_set_at, fun k hk => ?_⟩, HF.setP F of rfl⟩
    have e2 : gTab m (j + 1 + 1) k = if k = j + 1 then (if j + 1 = 0 then some 0 else gLoop m (gTab m (j + 1)) (j + 1) (j + 1) (j + 1) none) else gTab m (j + 1) k := rfl
    rw [e2]
    by_cases z : k = j + 1
    · subst z
      rw [upd_eq, if_pos rfl, if_neg (by omega)]
    · rw [upd_ne z, if_neg z]
      exact ef k (by omega)
  · obtain ⟨⟨f, of, ef⟩, F⟩ := hK
    have o' := F.k o (by simp only [isR]; omega)
    rw [show 2 ^ nP m - 1 + 1 = 2 ^ nP m by omega] at ef ⊢
    have e1 := ef (2 ^ nP m - 1) (by omega)
    have hl := gTab_le (m := m) (2 ^ nP m) (2 ^ nP m - 1) (by omega)
    cases et : gTab m (2 ^ nP m) (2 ^ nP m - 1) with
    | none =>
      rw [et] at e1
      refine r_iload_2 rfl ?_
      refine r_iload_1 rfl ?_
      refine r_icgtT rfl (nI_lt (by omega) (by omega)) ?_
      refine r_aload_0 rfl ?_
      refine r_getf rfl (by assumption) (by rfl) ?_
      refine r_iload_1 rfl ?_
      refine r_iald rfl (of) (rfl) (show 2 ^ nP m - 1 < 64 by omega) (by first | decide | omega) ?_
      refine r_push rfl ?_
      refine r_icltF rfl (by rw [e1]; decide) ?_
      refine r_push rfl ?_
      refine r_goto rfl ?_
      refine r_iret rfl ?_
      exact ⟨_, _, rfl, rfl, ⟨f, of⟩, F⟩
    | some n =>
      have := hl n et
      rw [et] at e1
      refine r_iload_2 rfl ?_
      refine r_iload_1 rfl ?_
      refine r_icgtT rfl (nI_lt (by omega) (by omega)) ?_
      refine r_aload_0 rfl ?_
      refine r_getf rfl (by assumption) (by rfl) ?_
      refine r_iload_1 rfl ?_
      refine r_iald rfl (of) (rfl) (show 2 ^ nP m - 1 < 64 by omega) (by first | decide | omega) ?_
      refine r_push rfl ?_
      refine r_icltT rfl (by rw [e1]; exact nI_lt (a := n) (b := 1000000) (by omega) (by decide)) ?_
      refine r_aload_0 rfl ?_
      refine r_getf rfl (by assumption) (by rfl) ?_
      refine r_iload_1 rfl ?_
      refine r_iald rfl (of) (rfl) (show 2 ^ nP m - 1 < 64 by omega) (by first | decide | omega) ?_
      refine r_iret rfl ?_
      rw [e1]
      exact ⟨_, _, rfl, rfl, ⟨f, of⟩, F⟩
end
