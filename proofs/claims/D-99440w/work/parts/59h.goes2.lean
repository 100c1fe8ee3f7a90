/-! WHAT IS ASKED: goes of the model -/
set_option maxRecDepth 100000
section
variable {G : am_G} {h : am_H} {y : Nat} {m g : Nat → Int32}
/-- the load of people together, added up -/
theorem c_yGrp (q : MM h y g m) (v : VR m) {Q : am_O → Prop} {x2 x3 : Value} (z : Int32) (x6 : Value) (kont : ∀ x6, Wp G 5 mt_X6_goes 84 [.ref y, .int (nI (nP m)), x2, x3, .int z, .int (grpF m z), x6] [] h Q) (x5 : Value) : Wp G 5 mt_X6_goes 41 [.ref y, .int (nI (nP m)), x2, x3, .int z, x5, x6] [] h Q := by
  have o := q.1
  have hP := v.pp
  refine r_push rfl ?_
  refine r_istore_5 rfl ?_
  refine r_push rfl ?_
  refine r_istore_6 rfl ?_
  refine wp_for (nP m) (fun j => [.ref y, .int (nI (nP m)), x2, x3, .int z, .int (smF (fun p => if isF z (nI p) = true then loadF m (nI p) else 0) j), .int (nI j)]) (fun j hj k2 => ?_) ?_
  · rw [smF] at k2
    cases e : isF z (nI j) with
    | true =>
      rw [e, if_pos rfl] at k2
      refine r_iload_6 rfl ?_
      refine r_iload_1 rfl ?_
      refine r_icgeF rfl (nI_lt hj (by omega)) ?_
      refine r_iload_5 rfl ?_
      refine r_iload_4 rfl ?_
      refine r_iload_6 rfl ?_
      refine r_invP_2 rfl rfl (by decide) (c_isOf _ _) ?_
      refine r_ifeqF rfl (by rw [e]; decide) ?_
      refine r_aload_0 rfl ?_
      refine r_iload_6 rfl ?_
      refine r_invvP_1 rfl (by assumption) rfl rfl (by decide) (c_mload q v _) ?_
      refine r_goto rfl ?_
      refine r_iadd rfl ?_
      refine r_istore_5 rfl ?_
      refine r_iinc_6 rfl ?_
      refine r_goto rfl ?_
      rw [nI_1]
      exact k2
    | false =>
      rw [e, if_neg (by decide)] at k2
      refine r_iload_6 rfl ?_
      refine r_iload_1 rfl ?_
      refine r_icgeF rfl (nI_lt hj (by omega)) ?_
      refine r_iload_5 rfl ?_
      refine r_iload_4 rfl ?_
      refine r_iload_6 rfl ?_
      refine r_invP_2 rfl rfl (by decide) (c_isOf _ _) ?_
      refine r_ifeqT rfl (by rw [e]; rfl) ?_
      refine r_push rfl ?_
      refine r_iadd rfl ?_
      refine r_istore_5 rfl ?_
      refine r_iinc_6 rfl ?_
      refine r_goto rfl ?_
      rw [nI_1]
      exact k2
  · refine r_iload_6 rfl ?_
    refine r_iload_1 rfl ?_
    refine r_icgeT rfl (Int32.le_refl _) ?_
    exact kont _
theorem c_yGoLoop (q : MM h y g m) (v : VR m) {f : Nat → Int32} (oa : h.1 (y + 7) = some (.inl (0, 1024, .inl f))) {t : Nat → Option Nat} {s : Nat} (hs : s < 64) (hf : ∀ k, k < s → f k = fulV (t k)) (ht : ∀ k, k < s → ∀ n, t k = some n → n ≤ k) {Q : am_O → Prop} : ∀ (n p : Nat) (bb : Option Nat) (x5 x6 : Value), p ≤ n → inS p s → (∀ k, bb = some k → k ≤ s) → (∀ x5 x6, Wp G 5 mt_X6_goes 142 [.ref y, .int (nI (nP m)), .int (nI s), .int (fulV (gLoop m t s n p bb)), .int (nI 0), x5, x6] [] h Q) → Wp G 5 mt_X6_goes 36 [.ref y, .int (nI (nP m)), .int (nI s), .int (fulV bb), .int (nI p), x5, x6] [] h Q := by
  have o := q.1; have o1 := q.2
  intro n
  induction n with
  | zero =>
    intro p bb x5 x6 hp hi hb kont
    have : p = 0 := by omega
    subst this
    refine r_iload_4 rfl ?_
    refine r_ifleT rfl (by decide) ?_
    exact kont _ _
  | succ n ih =>
    intro p bb x5 x6 hp hi hb kont
    rw [gLoop] at kont
    by_cases z : p = 0
    · subst z
      rw [if_pos rfl] at kont
      refine r_iload_4 rfl ?_
      refine r_ifleT rfl (by decide) ?_
      exact kont _ _
    · rw [if_neg z] at kont
      have hle := inS_le hi
      have hx := xor_lt hi (by omega)
      have hstep := gStep_le (m := m) ht hi (by omega) hb
      have nx : (nI p - 1) &&& nI s = nI ((p - 1) &&& s) := by
        rw [show (1 : Int32) = nI 1 from rfl, nI_sub (by omega), and_I]
      have hlt : (p - 1) &&& s ≤ n := by
        have : (p - 1) &&& s ≤ p - 1 := Nat.and_le_left
        omega
      have again := fun x5 x6 => ih ((p - 1) &&& s) (gStep m t s p bb) x5 x6 hlt inS_next hstep kont
      clear kont ih
      refine r_iload_4 rfl ?_
      refine r_ifleF rfl (nI_lt (a := 0) (by omega) (by omega)) ?_
      refine c_yGrp q v (nI p) x6 (fun x6 => ?_) x5
      have go : Wp G 5 mt_X6_goes 131 [.ref y, .int (nI (nP m)), .int (nI s), .int (fulV (gStep m t s p bb)), .int (nI p), .int (grpF m (nI p)), x6] [] h Q := by
        refine r_iload_4 rfl ?_
        refine r_push rfl ?_
        refine r_isub rfl ?_
        refine r_iload_2 rfl ?_
        refine r_iand rfl ?_
        refine r_istore_4 rfl ?_
        refine r_goto rfl ?_
        rw [nx]
        exact again _ _
      by_cases A : grpF m (nI p) ≤ m 6
      · have h2 := ht _ hx
        have ef := hf _ hx
        cases et : t (s ^^^ p) with
        | none =>
          have es : gStep m t s p bb = bb := by
            unfold gStep
            rw [if_pos A, et]
            cases bb <;> rfl
          rw [et] at ef
          rw [es] at go
          refine r_iload_5 rfl ?_
          refine r_aload_0 rfl ?_
          refine r_getf rfl (by assumption) (by rfl) ?_
          refine r_push rfl ?_
          refine r_iald rfl (o1) (show (6 : Int32) = nI 6 from rfl) (by first | assumption | omega) (by first | decide | omega) ?_
          refine r_icgtF rfl (A) ?_
          refine r_aload_0 rfl ?_
          refine r_getf rfl (by assumption) (by rfl) ?_
          refine r_iload_2 rfl ?_
          refine r_iload_4 rfl ?_
          refine r_push rfl ?_
          refine r_ixor rfl ?_
          refine r_iand rfl ?_
          refine r_iald rfl (oa) (xor_I hi) (show s ^^^ p < 1024 by omega) (by first | decide | omega) ?_
          refine r_push rfl ?_
          refine r_iceqT rfl (ef) ?_
          exact go
        | some a =>
          have := h2 a et
          rw [et] at ef
          have es : fulV (gStep m t s p bb) = minF (fulV bb) (1 + f (s ^^^ p)) := by
            unfold gStep
            rw [if_pos A, et, ef]
            cases bb with
            | none =>
              show nI (a + 1) = minF (nI 2000000000) (nI 1 + nI a)
              rw [nI_add, minF_nI (by decide) (by omega), Nat.min_eq_right (by omega), Nat.add_comm]
            | some c =>
              have := hb c rfl
              show nI (min c (a + 1)) = minF (nI c) (nI 1 + nI a)
              rw [nI_add, minF_nI (by omega) (by omega), Nat.add_comm]
          rw [es] at go
          refine r_iload_5 rfl ?_
          refine r_aload_0 rfl ?_
          refine r_getf rfl (by assumption) (by rfl) ?_
          refine r_push rfl ?_
          refine r_iald rfl (o1) (show (6 : Int32) = nI 6 from rfl) (by first | assumption | omega) (by first | decide | omega) ?_
          refine r_icgtF rfl (A) ?_
          refine r_aload_0 rfl ?_
          refine r_getf rfl (by assumption) (by rfl) ?_
          refine r_iload_2 rfl ?_
          refine r_iload_4 rfl ?_
          refine r_push rfl ?_
          refine r_ixor rfl ?_
          refine r_iand rfl ?_
          refine r_iald rfl (oa) (xor_I hi) (show s ^^^ p < 1024 by omega) (by first | decide | omega) ?_
          refine r_push rfl ?_
          refine r_iceqF rfl (by rw [ef]; exact fun z => absurd (nI_inj (a := a) (c := 2000000000) (by omega) (by decide) z) (by omega)) ?_
          refine r_iload_3 rfl ?_
          refine r_push rfl ?_
          refine r_aload_0 rfl ?_
          refine r_getf rfl (by assumption) (by rfl) ?_
          refine r_iload_2 rfl ?_
          refine r_iload_4 rfl ?_
          refine r_push rfl ?_
          refine r_ixor rfl ?_
          refine r_iand rfl ?_
          refine r_iald rfl (oa) (xor_I hi) (show s ^^^ p < 1024 by omega) (by first | decide | omega) ?_
          refine r_iadd rfl ?_
          refine r_invP_2 rfl rfl (by decide) (c_lesser _ _) ?_
          refine r_istore_3 rfl ?_
          exact go
      · have es : gStep m t s p bb = bb := by unfold gStep; rw [if_neg A]
        rw [es] at go
        refine r_iload_5 rfl ?_
        refine r_aload_0 rfl ?_
        refine r_getf rfl (by assumption) (by rfl) ?_
        refine r_push rfl ?_
        refine r_iald rfl (o1) (show (6 : Int32) = nI 6 from rfl) (by first | assumption | omega) (by first | decide | omega) ?_
        refine r_icgtT rfl (Int32.not_le.mp A) ?_
        exact go
theorem c_yGoes (hw : HW h) (q : MM h y g m) (v : VR m) (oa : ∃ f, h.1 (y + 7) = some (.inl (0, 1024, .inl f))) : Ev G 6 m_X6_goes [.ref y] h (fun r h' => r = .int (goesF m) ∧ MM h' y (upd g 0 (nI 0)) m ∧ (∃ f, h'.1 (y + 7) = some (.inl (0, 1024, .inl f))) ∧ HF (fun a => a = y ∨ a = y + 7) 0 0 h h') := by
  obtain ⟨f0, oa⟩ := oa
  have hP := v.pp
  have p6 : 2 ^ nP m ≤ 64 := Nat.pow_le_pow_right (by decide) hP.2
  have p0 : 0 < 2 ^ nP m := Nat.pow_pos (by decide)
  have eP : (1 : Int32) <<< (nI (nP m) &&& 31) = nI (2 ^ nP m) := sh1 _ (by omega)
  have eP1 : (1 : Int32) <<< (nI (nP m) &&& 31) - 1 = nI (2 ^ nP m - 1) := by rw [eP, show (1 : Int32) = nI 1 from rfl, nI_sub (by omega)]
  have m3 := q.thr (nI 0)
  have o3 := m3.1; have r3 := m3.2
  have F0 : HF (fun a => a = y ∨ a = y + 7) 0 0 h (mh h y (upd g 0 (nI 0))) := (HF.set hw q.1).mono (fun a z => Or.inl z) (Nat.le_refl _) (Nat.le_refl _)
  have oa3 : (mh h y (upd g 0 (nI 0))).1 (y + 7) = some (.inl (0, 1024, .inl f0)) := am_set_k oa (by omega)
  unfold goesF
  refine wc_le (e := 5) (by decide) ?_
  refine wc_in mt_X6_goes rfl (L := [.ref y, am_un, am_un, am_un, am_un, am_un, am_un]) rfl ?_
  refine r_aload_0 rfl ?_
  refine r_push rfl ?_
  refine r_puti rfl q.1 rfl ?_
  rw [mo_0]
  refine r_aload_0 rfl ?_
  refine r_getf rfl o3 rfl ?_
  refine r_push rfl ?_
  refine r_iald rfl r3 (show (3 : Int32) = nI 3 from rfl) (by decide) (by decide) ?_
  rw [hP.1]
  refine r_istore_1 rfl ?_
  refine r_push rfl ?_
  refine r_istore_2 rfl ?_
  refine wp_forH (2 ^ nP m) (fun j L h' => (∃ x3 x4 x5 x6, L = [.ref y, .int (nI (nP m)), .int (nI j), x3, x4, x5, x6]) ∧ MM h' y (upd g 0 (nI 0)) m ∧ (∃ f, h'.1 (y + 7) = some (.inl (0, 1024, .inl f)) ∧ ∀ k, k < j → f k = fulV (gTab m j k)) ∧ HF (fun a => a = y ∨ a = y + 7) 0 0 h h') (fun j L h' hj hK kont => ?_) (fun L h' hK => ?_) _ _ ⟨⟨am_un, am_un, am_un, am_un, rfl⟩, m3, ⟨f0, oa3, fun k hk => absurd hk (Nat.not_lt_zero _)⟩, F0⟩
  · obtain ⟨⟨x3, x4, x5, x6, rfl⟩, mm, ⟨f, of, ef⟩, F⟩ := hK
    have o := mm.1
    have fin : ∀ (r : Option Nat) x4 x5 x6, r = (if j = 0 then some 0 else gLoop m (gTab m j) j j j none) → Wp G 5 mt_X6_goes 142 [.ref y, .int (nI (nP m)), .int (nI j), .int (fulV r), x4, x5, x6] [] h' (fun R => ∃ r h', R = .inl (some r, h') ∧ r = .int (nonV (gTab m (2 ^ nP m) (2 ^ nP m - 1))) ∧ MM h' y (upd g 0 (nI 0)) m ∧ (∃ f, h'.1 (y + 7) = some (.inl (0, 1024, .inl f))) ∧ HF (fun a => a = y ∨ a = y + 7) 0 0 h h') := by
      intro r x4 x5 x6 hr
      refine r_aload_0 rfl ?_
      refine r_getf rfl o rfl ?_
      refine r_iload_2 rfl ?_
      refine r_iload_3 rfl ?_
      refine r_iast rfl of rfl (show j < 1024 by omega) (by decide) ?_
      refine r_iinc_2 rfl ?_
      refine r_goto rfl ?_
      rw [nI_1]
      refine kont _ _ ⟨⟨_, _, _, _, rfl⟩, ⟨am_set_k mm.1 (by omega), am_set_k mm.2 (by omega)⟩, ⟨_, am_set_at, fun k hk => ?_⟩, HF.setP F of (Or.inr rfl)⟩
      have e2 : gTab m (j + 1) k = if k = j then (if j = 0 then some 0 else gLoop m (gTab m j) j j j none) else gTab m j k := rfl
      rw [e2, ← hr]
      by_cases z : k = j
      · subst z
        rw [upd_eq, if_pos rfl]
      · rw [upd_ne z, if_neg z]
        exact ef k (by omega)
    refine r_iload_2 rfl ?_
    refine r_push rfl ?_
    refine r_iload_1 rfl ?_
    refine r_ishl rfl ?_
    rw [eP]
    refine r_icgeF rfl (nI_lt hj (by omega)) ?_
    refine r_iload_2 rfl ?_
    by_cases z : j = 0
    · subst z
      refine r_ifneF rfl rfl ?_
      refine r_push rfl ?_
      refine r_goto rfl ?_
      refine r_istore_3 rfl ?_
      refine r_iload_2 rfl ?_
      refine r_istore_4 rfl ?_
      refine r_iload_4 rfl ?_
      refine r_ifleT rfl (by decide) ?_
      exact fin (some 0) _ _ _ rfl
    · refine r_ifneT rfl (fun w => z (nI_inj (by omega) (by decide) w)) ?_
      refine r_push rfl ?_
      refine r_istore_3 rfl ?_
      refine r_iload_2 rfl ?_
      refine r_istore_4 rfl ?_
      refine c_yGoLoop mm v of (t := gTab m j) (by omega) ef (gTab_le _) j j none _ _ (Nat.le_refl _) (Nat.and_self _) (fun _ e => by cases e) (fun x5 x6 => ?_)
      exact fin _ _ _ _ (by rw [if_neg z])
  · obtain ⟨⟨x3, x4, x5, x6, rfl⟩, mm, ⟨f, of, ef⟩, F⟩ := hK
    have o := mm.1
    have e1 := ef (2 ^ nP m - 1) (by omega)
    have hl := gTab_le (m := m) (2 ^ nP m) (2 ^ nP m - 1) (by omega)
    refine r_iload_2 rfl ?_
    refine r_push rfl ?_
    refine r_iload_1 rfl ?_
    refine r_ishl rfl ?_
    rw [eP]
    refine r_icgeT rfl (Int32.le_refl _) ?_
    refine r_aload_0 rfl ?_
    refine r_getf rfl o rfl ?_
    refine r_push rfl ?_
    refine r_iload_1 rfl ?_
    refine r_ishl rfl ?_
    refine r_push rfl ?_
    refine r_isub rfl ?_
    refine r_iald rfl of eP1 (by omega) (by decide) ?_
    rw [e1]
    refine r_istore_2 rfl ?_
    refine r_iload_2 rfl ?_
    refine r_push rfl ?_
    cases et : gTab m (2 ^ nP m) (2 ^ nP m - 1) with
    | none =>
      refine r_icneF rfl rfl ?_
      refine r_push rfl ?_
      refine r_goto rfl ?_
      refine r_iret rfl ?_
      exact ⟨_, _, rfl, rfl, mm, ⟨f, of⟩, F⟩
    | some n =>
      have := hl n et
      refine r_icneT rfl (fun z => absurd (nI_inj (a := n) (c := 2000000000) (by omega) (by decide) z) (by omega)) ?_
      refine r_iload_2 rfl ?_
      refine r_iret rfl ?_
      exact ⟨_, _, rfl, rfl, mm, ⟨f, of⟩, F⟩
end
