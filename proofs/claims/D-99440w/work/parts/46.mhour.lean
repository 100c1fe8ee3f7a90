/-! THE MODEL: an hour -/
set_option maxRecDepth 100000
/-- a row within a frame -/
def ML (G : am_G) (bs y : Nat) (h0 : am_H) (g0 b m : Nat → Int32) (h : am_H) : Prop := ∃ g, MZ G bs h y g m ∧ VR m ∧ BY b m ∧ LV m ∧ gK g0 g ∧ HF (PP y) 0 0 h0 h
/-- so many hours: how many were hurt, the row then -/
def hourN (dr : Bool) (m : Nat → Int32) : Nat → Int32 × (Nat → Int32)
  | 0 => (0, m)
  | n + 1 => ((hourN dr m n).1 + (hourF dr (hourN dr m n).2).1, (hourF dr (hourN dr m n).2).2)
theorem en_mono {G : am_G} {d : Nat} {k : Nat} {As : List Value} {h : am_H} {P P' : am_H → Prop} (w : En G d k As h P) (z : ∀ h', P h' → P' h') : En G d k As h P' := by
  obtain ⟨n, R, e, h', er, y⟩ := w
  exact ⟨n, R, e, h', er, z _ y⟩
theorem ev_mono {G : am_G} {d : Nat} {k : Nat} {As : List Value} {h : am_H} {P P' : Value → am_H → Prop} (w : Ev G d k As h P) (z : ∀ v h', P v h' → P' v h') : Ev G d k As h P' := by
  obtain ⟨n, R, e, v, h', er, y⟩ := w
  exact ⟨n, R, e, v, h', er, z _ _ y⟩
theorem bridge : ∀ a, a < 12 → ∀ g, g < 12 → nI a ≠ nI g → (nI a + (if nI a < nI g then nI a + 1 else nI a - 1) = 11 ↔ maxF (if nI a < nI g then nI a + 1 else nI a - 1) (nI a) = 6) := by decide +kernel
theorem rm100 : ∀ {k : Nat}, k < 32768 → ∃ d : Nat, d < 100 ∧ rmF (nI k) 100 = nI d := by
  intro k hk
  refine ⟨k % 100, by omega, ?_⟩
  unfold rmF
  have e1 : nI k / 100 = nI (k / 100) := by
    rw [show (100 : Int32) = nI 100 from rfl]
    apply Int32.toInt_inj.mp
    rw [Int32.toInt_div_of_ne_left _ _ (fun z => by
      have := congrArg Int32.toInt z
      rw [nI_toInt (by omega)] at this
      exact absurd this (by rw [show (Int32.minValue).toInt = -2147483648 from rfl]; omega)), nI_toInt (by omega), nI_toInt (by decide), nI_toInt (by omega)]
    rfl
  rw [e1, show (100 : Int32) = nI 100 from rfl, nI_mul, nI_sub (by omega)]
  congr 1
  omega
theorem and_lo (x : Int32) : ∃ k : Nat, k < 32768 ∧ x &&& 32767 = nI k := by
  refine ⟨x.toUInt32.toNat % 32768, by omega, ?_⟩
  apply Int32.toBitVec_inj.mp
  apply BitVec.eq_of_toNat_eq
  rw [Int32.toBitVec_and, BitVec.toNat_and]
  show x.toUInt32.toNat &&& 32767 = _
  rw [show (32767 : Nat) = 2 ^ 15 - 1 from rfl, Nat.and_two_pow_sub_one_eq_mod]
  show _ = (nI _).toBitVec.toNat
  rw [show ∀ k, (nI k).toBitVec = BitVec.ofNat 32 k from fun _ => rfl, BitVec.toNat_ofNat]
  omega
theorem drF_lo (s : Int32) : ∃ d : Nat, d < 100 ∧ drF s = nI d := by
  unfold drF
  obtain ⟨k, hk, e⟩ := and_lo (s.toUInt32 >>> ((16 : Int32).toUInt32 &&& Int32.toUInt32 31)).toInt32
  rw [e]
  exact rm100 hk
theorem min100 {x d : Int32} (hd : d < 100) : minF 100 x ≤ d ↔ x ≤ d := by
  unfold minF
  split
  · rename_i c
    exact ⟨fun z => absurd hd (Int32.not_lt.mpr z), fun z => absurd hd (Int32.not_lt.mpr (Int32.le_trans c z))⟩
  · exact Iff.rfl
theorem huM_le {m : Nat → Int32} {p : Nat} {d : Int32} (hd : d < 100) : minF 100 (huM m p) ≤ d ↔ huF m p ≤ d := by
  unfold huM huF
  split
  · exact min100 hd
  · exact Iff.rfl
theorem huF_seed {m : Nat → Int32} {p : Nat} {s : Int32} (hp : p < 6) : huF (upd m 8 s) p = huF m p := by
  have e : ∀ k, k ≠ 8 → upd m 8 s k = m k := fun k hk => upd_ne hk
  have eS : nS (upd m 8 s) = nS m := rfl
  have ew : wornF (upd m 8 s) (nI p) = wornF m (nI p) := by
    unfold wornF
    rw [eS]
    exact bsF_congr fun k _ => by rw [e _ (by omega), e _ (by omega)]
  have el : loadF (upd m 8 s) (nI p) = loadF m (nI p) := by
    unfold loadF weightF
    rw [ew, eS]
    exact smF_congr fun k _ => by rw [e _ (by omega)]
  have elw : lwF (upd m 8 s) = lwF m := lwF_congr rfl (fun k hk => e k (by omega))
  have ef : fcF (upd m 8 s) p = fcF m p := by
    funext k
    unfold fcF
    rw [el, e (34 + 6 * p) (by omega), e (35 + 6 * p) (by omega), e (36 + 6 * p) (by omega), e (37 + 6 * p) (by omega), e 5 (by omega)]
    have : upd m 8 s (9 + (m (35 + 6 * p)).toNatClampNeg) = m (9 + (m (35 + 6 * p)).toNatClampNeg) := e _ (by omega)
    rw [this]
  unfold huF
  rw [ef, elw, el, e 1 (by omega), e (34 + 6 * p) (by omega)]
section
variable {G : am_G} {bs y : Nat} {h h0 : am_H} {g0 m b : Nat → Int32} {p : Nat}
theorem ML.row (q : ML G bs y h0 g0 b m h) {m' : Nat → Int32} (ok : VR m' ∧ BY b m' ∧ KR m m') : ML G bs y h0 g0 b m' (am_set h (y + 1) (.inl (0, 769, .inl m'))) := by
  obtain ⟨g, q1, q2, q3, q4, q5, q6⟩ := q
  obtain ⟨z1, z2⟩ := q1.sm (m' := m')
  exact ⟨g, z1, ok.1, ok.2.1, q4.kr ok.2.2, q5, (HF.trans q6 z2).mono (fun _ z => z) (Nat.le_refl _) (Nat.le_refl _)⟩
theorem ML.o (q : ML G bs y h0 g0 b m h) : ∃ g, MM h y g m := by
  obtain ⟨g, q1, -⟩ := q
  exact ⟨g, q1.1⟩
theorem c_mAsk (q : ML G bs y h0 g0 b m h) (hp : p < nP m) : En G 32 m_X6_asks [.ref y, .int (nI p)] h (fun h' => ∃ g', MM h' y g' m ∧ g' 17 = tiF m p ∧ g' 18 = eaF m p ∧ g' 19 = huM m p ∧ ML G bs y h0 g0 b m h') := by
  obtain ⟨g, q1, q2, q3, q4, q5, q6⟩ := q
  refine en_mono (c_mAsks q1 q2 q4 hp) ?_
  rintro h' ⟨g', z1, z2, z3, z4, z5, z6⟩
  exact ⟨g', z1.1, z3, z4, z5, g', z1, q2, q3, q4, q5.trans z2, HF.trans q6 (z6.mono (fun _ z => AP_PP z) (Nat.le_refl _) (Nat.le_refl _))⟩
theorem c_mwalks (q : ML G bs y h0 g0 b m h) (hp : p < nP m) : En G 33 m_X6_walks [.ref y, .int (nI p)] h (fun h' => ML G bs y h0 g0 b (goF m p) h') := by
  obtain ⟨g, mm⟩ := q.o
  obtain ⟨-, -, v, yb, -, -, -⟩ := id q
  have ok := goF_ok v yb hp
  have hp6 := v.pp.2
  obtain ⟨⟨pl, hpl, epl⟩, ⟨gl, hgl, egl⟩, -⟩ := v.pe p hp
  have o := mm.1
  have o1 := mm.2
  have Q := q
  refine wc_in mt_X6_walks rfl (L := [.ref y, .int (nI p), am_un, am_un]) rfl ?_
  have go : ∀ nx, nx = nxF m p → Wp G 33 mt_X6_walks 26 [.ref y, .int (nI p), .int (m (35 + 6 * p)), am_un] [.int nx] h (fun R => ∃ h', R = .inl (none, h') ∧ ML G bs y h0 g0 b (goF m p) h') := by
    rintro nx rfl
    refine r_istore_3 rfl ?_
    refine r_iload_2 rfl ?_
    refine r_aload_0 rfl ?_
    refine r_iload_1 rfl ?_
    refine r_push rfl ?_
    refine r_invvP_2 rfl o rfl rfl (by decide) (c_of3 mm (by omega)) ?_
    refine r_icne rfl (fun c => ?_) (fun c => ?_)
    · have eg : goF m p = if bowF m p = true then m else wkF m p := by unfold goF; rw [if_neg c]
      rw [eg] at ok ⊢
      refine r_aload_0 rfl ?_
      refine r_iload_1 rfl ?_
      refine r_invvP_1 rfl o rfl rfl (by decide) (c_misBowed mm v hp) ?_
      cases eb : bowF m p with
      | true =>
        refine r_ifneT rfl (by decide) ?_
        refine r_vret rfl ?_
        exact ⟨_, rfl, q⟩
      | false =>
        rw [eb, if_neg (by decide)] at ok
        rw [if_neg (by decide)]
        refine r_ifneF rfl rfl ?_
        refine r_aload_0 rfl ?_
        refine r_aload_0 rfl ?_
        refine r_iload_1 rfl ?_
        refine r_invvP_1 rfl o rfl rfl (by decide) (c_mload mm v _) ?_
        refine r_iload_2 rfl ?_
        refine r_iload_3 rfl ?_
        refine r_invvP_3 rfl o rfl rfl (by decide) (c_mmayGo mm _ _ _) ?_
        have br := bridge pl hpl gl hgl (by rw [← epl, ← egl]; exact c)
        rw [← epl, ← egl] at br
        cases em : (decide (m (35 + 6 * p) + nxF m p ≠ 11) || decide (loadF m (nI p) ≤ m 6)) with
        | true =>
          have ew : wkF m p = upd m (35 + 6 * p) (nxF m p) := by
            unfold wkF
            refine if_neg (fun z => ?_)
            have z1 := br.mpr z.1
            have z2 := Int32.not_le.mpr z.2
            rw [Bool.or_eq_true, decide_eq_true_iff, decide_eq_true_iff] at em
            exact em.elim (fun e => e z1) z2
          rw [ew] at ok ⊢
          refine r_ifeqF rfl (by decide) ?_
          refine r_aload_0 rfl ?_
          refine r_iload_1 rfl ?_
          refine r_push rfl ?_
          refine r_iload_3 rfl ?_
          refine r_invvV rfl rfl o rfl rfl (by decide) (c_pt2 mm (by omega)) ?_
          refine r_vret rfl ?_
          exact ⟨_, rfl, q.row ok⟩
        | false =>
          have ew : wkF m p = m := by
            unfold wkF
            rw [Bool.or_eq_false_iff, decide_eq_false_iff_not, decide_eq_false_iff_not] at em
            exact if_pos ⟨br.mp (Decidable.not_not.mp em.1), Int32.not_le.mp em.2⟩
          rw [ew]
          refine r_ifeqT rfl rfl ?_
          refine r_vret rfl ?_
          exact ⟨_, rfl, q⟩
    · have eg : goF m p = upd m (33 + 6 * p) (minF 9999 (m (33 + 6 * p) + eaF m p)) := by unfold goF; rw [if_pos c]
      rw [eg] at ok ⊢
      refine r_aload_0 rfl ?_
      refine r_iload_1 rfl ?_
      refine r_invvF rfl rfl o rfl rfl (by decide) (c_mAsk q hp) ?_
      rintro h2 ⟨g2, mm2, -, e18, -, q2⟩
      refine r_aload_0 rfl ?_
      refine r_iload_1 rfl ?_
      refine r_push rfl ?_
      refine r_push rfl ?_
      refine r_aload_0 rfl ?_
      refine r_iload_1 rfl ?_
      refine r_push rfl ?_
      refine r_invvP_2 rfl mm2.1 rfl rfl (by decide) (c_of0 mm2 (by omega)) ?_
      refine r_aload_0 rfl ?_
      refine r_getf rfl mm2.1 rfl ?_
      rw [e18]
      refine r_iadd rfl ?_
      refine r_invP_2 rfl rfl (by decide) (c_lesser _ _) ?_
      refine r_invvV rfl rfl mm2.1 rfl rfl (by decide) (c_pt0 mm2 (by omega)) ?_
      refine r_goto rfl ?_
      refine r_vret rfl ?_
      exact ⟨_, rfl, q2.row ok⟩
  have hn1 : m (35 + 6 * p) < m (36 + 6 * p) → nxF m p = m (35 + 6 * p) + 1 := fun z => if_pos z
  have hn2 : ¬ m (35 + 6 * p) < m (36 + 6 * p) → nxF m p = m (35 + 6 * p) - 1 := fun z => if_neg z
  refine r_aload_0 rfl ?_
  refine r_iload_1 rfl ?_
  refine r_push rfl ?_
  refine r_invvP_2 rfl (by assumption) rfl rfl (by decide) (c_of2 mm (by omega)) ?_
  refine r_istore_2 rfl ?_
  refine r_iload_2 rfl ?_
  refine r_aload_0 rfl ?_
  refine r_iload_1 rfl ?_
  refine r_push rfl ?_
  refine r_invvP_2 rfl (by assumption) rfl rfl (by decide) (c_of3 mm (by omega)) ?_
  refine r_icge rfl (fun c_14 => ?_) (fun c_14 => ?_)
  · refine r_iload_2 rfl ?_
    refine r_push rfl ?_
    refine r_isub rfl ?_
    first | exact go _ (hn1 c_14).symm | exact go _ (hn2 (Int32.not_lt.mpr c_14)).symm
  · refine r_iload_2 rfl ?_
    refine r_push rfl ?_
    refine r_iadd rfl ?_
    refine r_goto rfl ?_
    first | exact go _ (hn1 c_14).symm | exact go _ (hn2 (Int32.not_lt.mpr c_14)).symm
theorem c_mdraw5 {h5 : am_H} {m5 : Nat → Int32} {x : Int32} (q : ML G bs y h0 g0 b m5 h5) (mm : ∃ g, MM h5 y g m5 ∧ g 19 = x) : Ev G 0 m_X6_draw [.ref y, .int 100] h5 (fun v h' => v = .int (drF (sdF m5)) ∧ ∃ g, MM h' y g (upd m5 8 (sdF m5)) ∧ g 19 = x ∧ ML G bs y h0 g0 b (upd m5 8 (sdF m5)) h') := by
  obtain ⟨g, mm, eg⟩ := mm
  obtain ⟨-, -, v, yb, -, -, -⟩ := id q
  have o := mm.1; have o1 := mm.2
  refine wc_in mt_X6_draw rfl (L := [.ref y, .int 100]) rfl ?_
  refine r_aload_0 rfl ?_
  refine r_getf rfl (by assumption) (by rfl) ?_
  refine r_push rfl ?_
  refine r_push rfl ?_
  refine r_aload_0 rfl ?_
  refine r_getf rfl (by assumption) (by rfl) ?_
  refine r_push rfl ?_
  refine r_iald rfl (o1) (show (8 : Int32) = nI 8 from rfl) (by first | assumption | omega) (by first | decide | omega) ?_
  refine r_imul rfl ?_
  refine r_push rfl ?_
  refine r_iadd rfl ?_
  refine r_iast rfl (o1) (show (8 : Int32) = nI 8 from rfl) (by first | assumption | omega) (by first | decide | omega) ?_
  refine r_aload_0 rfl ?_
  refine r_getf rfl (mm.set.1) (by rfl) ?_
  refine r_push rfl ?_
  refine r_iald rfl (mm.set.2) (show (8 : Int32) = nI 8 from rfl) (by first | assumption | omega) (by first | decide | omega) ?_
  refine r_push rfl ?_
  refine r_iushr rfl ?_
  refine r_push rfl ?_
  refine r_iand rfl ?_
  refine r_iload_1 rfl ?_
  refine r_irem rfl (by decide) ?_
  refine r_iret rfl ?_
  exact ⟨_, _, rfl, rfl, g, mm.set, eg, q.row (seed_ok v yb _)⟩
theorem c_mdawns (q : ML G bs y h0 g0 b m h) : En G 1 m_X6_dawns [.ref y] h (fun h' => ML G bs y h0 g0 b (dawnF m) h') := by
  obtain ⟨-, -, v, yb, -, -, -⟩ := id q
  have hS := v.ss
  have hP := v.pp
  obtain ⟨va, ya, ka⟩ := ageN_ok v yb _ (Nat.le_refl _)
  refine wc_in mt_X6_dawns rfl (L := [.ref y, am_un]) rfl ?_
  have second : ∀ h2, ML G bs y h0 g0 b (ageN m (nS m)) h2 → Wp G 1 mt_X6_dawns 47 [.ref y, .int (nI (nS m))] [] h2 (fun R => ∃ h', R = .inl (none, h') ∧ ML G bs y h0 g0 b (dawnF m) h') := by
    intro h2 q2
    refine r_push rfl ?_
    refine r_istore_1 rfl ?_
    refine wp_forHK (nP m) (fun j => [.ref y, .int (nI j)]) (fun j h' => ML G bs y h0 g0 b (slpN (ageN m (nS m)) j) h') (fun j h' hj hK kont => ?_) (fun h' hK => ?_) q2
    · obtain ⟨g, mm⟩ := hK.o
      have o := mm.1; have o1 := mm.2
      obtain ⟨v3, y3, k3⟩ := slpN_ok va ya j (by omega)
      obtain ⟨v4, y4, k4⟩ := slpN_ok va ya (j + 1) (by omega)
      have e3 : slpN (ageN m (nS m)) j 3 = nI (nP m) := by rw [slpN_lo _ (by omega) j (by omega), ageN_lo _ (by omega) _ hS.2, hP.1]
      have k5 : KR (slpN (ageN m (nS m)) j) (slpN (ageN m (nS m)) (j + 1)) := by
        rw [slpN]
        exact KR.u (by omega)
      refine r_iload_1 rfl ?_
      refine r_aload_0 rfl ?_
      refine r_getf rfl (by assumption) (by rfl) ?_
      refine r_push rfl ?_
      refine r_iald rfl (o1) (show (3 : Int32) = nI 3 from rfl) (by first | assumption | omega) (by first | decide | omega) ?_
      refine r_icgeF rfl (by rw [e3]; exact nI_lt hj (by omega)) ?_
      refine r_aload_0 rfl ?_
      refine r_iload_1 rfl ?_
      refine r_push rfl ?_
      refine r_aload_0 rfl ?_
      refine r_iload_1 rfl ?_
      refine r_push rfl ?_
      refine r_invvP_2 rfl (by assumption) rfl rfl (by decide) (c_of4 mm (by omega)) ?_
      refine r_push rfl ?_
      refine r_idiv rfl (by decide) ?_
      refine r_invvV rfl rfl (by assumption) rfl rfl (by decide) (c_pt4 mm (by omega)) ?_
      refine r_iinc_1 rfl ?_
      refine r_goto rfl ?_
      rw [nI_1]
      exact kont _ (hK.row ⟨v4, y4, k5⟩)
    · obtain ⟨g, mm⟩ := hK.o
      have o := mm.1; have o1 := mm.2
      have e3 : slpN (ageN m (nS m)) (nP m) 3 = nI (nP m) := by rw [slpN_lo _ (by omega) _ hP.2, ageN_lo _ (by omega) _ hS.2, hP.1]
      refine r_iload_1 rfl ?_
      refine r_aload_0 rfl ?_
      refine r_getf rfl (by assumption) (by rfl) ?_
      refine r_push rfl ?_
      refine r_iald rfl (o1) (show (3 : Int32) = nI 3 from rfl) (by first | assumption | omega) (by first | decide | omega) ?_
      refine r_icgeT rfl (by rw [e3]; exact Int32.le_refl _) ?_
      refine r_vret rfl ?_
      exact ⟨_, rfl, hK⟩
  refine r_push rfl ?_
  refine r_istore_1 rfl ?_
  refine wp_forHK (nS m) (fun j => [.ref y, .int (nI j)]) (fun j h' => ML G bs y h0 g0 b (ageN m j) h') (fun j h' hj hK kont => ?_) (fun h' hK => ?_) q
  · obtain ⟨g, mm⟩ := hK.o
    have o := mm.1; have o1 := mm.2
    obtain ⟨v3, y3, k3⟩ := ageN_ok v yb j (by omega)
    obtain ⟨v4, y4, k4⟩ := ageN_ok v yb (j + 1) (by omega)
    have e3 : ageN m j 4 = nI (nS m) := by rw [ageN_lo _ (by omega) j (by omega), hS.1]
    have eA : ageN m j (72 + 6 * j) = 2 → ageN m (j + 1) = ageN m j := fun z => if_pos z
    have eB : ¬ ageN m j (72 + 6 * j) = 2 → ageN m (j + 1) = upd (ageN m j) (71 + 6 * j) (minF 40 (ageN m j (71 + 6 * j) + 1)) := fun z => if_neg z
    have i2 := is2 (v3.st j (by rw [k3.ns]; exact hj)).2.2.2.1
    refine r_iload_1 rfl ?_
    refine r_aload_0 rfl ?_
    refine r_getf rfl (by assumption) (by rfl) ?_
    refine r_push rfl ?_
    refine r_iald rfl (o1) (show (4 : Int32) = nI 4 from rfl) (by first | assumption | omega) (by first | decide | omega) ?_
    refine r_icgeF rfl (by rw [e3]; exact nI_lt hj (by omega)) ?_
    refine r_aload_0 rfl ?_
    refine r_iload_1 rfl ?_
    refine r_push rfl ?_
    refine r_invvP_2 rfl (by assumption) rfl rfl (by decide) (c_os3 mm (by omega)) ?_
    refine r_push rfl ?_
    refine r_icge rfl (fun c_19 => ?_) (fun c_19 => ?_)
    · refine r_iinc_1 rfl ?_
      refine r_goto rfl ?_
      rw [nI_1]
      refine kont _ ?_
      first | (rw [eA (Decidable.not_not.mp (fun z => absurd (i2.mpr z) (Int32.not_lt.mpr c_19)))]; exact hK) | (rw [eB (i2.mp c_19)] at v4 y4 ⊢; exact hK.row ⟨v4, y4, KR.u (by omega)⟩)
    · refine r_aload_0 rfl ?_
      refine r_iload_1 rfl ?_
      refine r_push rfl ?_
      refine r_push rfl ?_
      refine r_aload_0 rfl ?_
      refine r_iload_1 rfl ?_
      refine r_push rfl ?_
      refine r_invvP_2 rfl (by assumption) rfl rfl (by decide) (c_os2 mm (by omega)) ?_
      refine r_push rfl ?_
      refine r_iadd rfl ?_
      refine r_invP_2 rfl rfl (by decide) (c_lesser _ _) ?_
      refine r_invvV rfl rfl (by assumption) rfl rfl (by decide) (c_ps2 mm (by omega)) ?_
      refine r_iinc_1 rfl ?_
      refine r_goto rfl ?_
      rw [nI_1]
      refine kont _ ?_
      first | (rw [eA (Decidable.not_not.mp (fun z => absurd (i2.mpr z) (Int32.not_lt.mpr c_19)))]; exact hK) | (rw [eB (i2.mp c_19)] at v4 y4 ⊢; exact hK.row ⟨v4, y4, KR.u (by omega)⟩)
  · obtain ⟨g, mm⟩ := hK.o
    have o := mm.1; have o1 := mm.2
    have e3 : ageN m (nS m) 4 = nI (nS m) := by rw [ageN_lo _ (by omega) _ hS.2, hS.1]
    refine r_iload_1 rfl ?_
    refine r_aload_0 rfl ?_
    refine r_getf rfl (by assumption) (by rfl) ?_
    refine r_push rfl ?_
    refine r_iald rfl (o1) (show (4 : Int32) = nI 4 from rfl) (by first | assumption | omega) (by first | decide | omega) ?_
    refine r_icgeT rfl (by rw [e3]; exact Int32.le_refl _) ?_
    exact second _ hK
theorem hourN_ok {dr : Bool} (v : VR m) (yb : BY b m) : ∀ n, VR (hourN dr m n).2 ∧ BY b (hourN dr m n).2 ∧ KR m (hourN dr m n).2
  | 0 => ⟨v, yb, KR.refl⟩
  | n + 1 => by
    obtain ⟨v1, y1, k1⟩ := hourN_ok (dr := dr) v yb n
    obtain ⟨v2, y2, k2⟩ := hourF_ok (dr := dr) v1 y1
    exact ⟨v2, y2, k1.trans k2⟩
/-- who tires, with a count ahead -/
theorem tirF_c {dr : Bool} {c0 c : Int32} {m : Nat → Int32} {p : Nat} : (tirF dr (c0 + c) m p).1 = c0 + (tirF dr c m p).1 ∧ (tirF dr (c0 + c) m p).2 = (tirF dr c m p).2 := by
  unfold tirF
  split
  · exact ⟨rfl, rfl⟩
  · split
    · exact ⟨rfl, rfl⟩
    · split
      · exact ⟨rfl, rfl⟩
      · exact ⟨Int32.add_assoc _ _ _, rfl⟩
theorem c_mtire (q : ML G bs y h0 g0 b m h) (hp : p < nP m) {dr : Bool} {n k c : Int32} {Q : am_O → Prop} (kont : ∀ h', ML G bs y h0 g0 b (tirF dr c m p).2 h' → Wp G 34 mt_X6_passes 40 [.ref y, .int n, .int (bI dr), .int (tirF dr c m p).1, .int k, .int (nI (p + 1))] [] h' Q) : Wp G 34 mt_X6_passes 51 [.ref y, .int n, .int (bI dr), .int c, .int k, .int (nI p)] [] h Q := by
  obtain ⟨g, mm⟩ := q.o
  obtain ⟨-, -, v, yb, -, -, -⟩ := id q
  have hP := v.pp.2
  have i1 := is01 (v.pe p hp).2.2
  have o := mm.1
  have fin : ∀ h2 (c2 : Int32), c2 = (tirF dr c m p).1 → ML G bs y h0 g0 b (tirF dr c m p).2 h2 → Wp G 34 mt_X6_passes 137 [.ref y, .int n, .int (bI dr), .int c2, .int k, .int (nI p)] [] h2 Q := by
    rintro h2 c2 rfl k2
    refine r_iinc_5 rfl ?_
    refine r_goto rfl ?_
    rw [nI_1]
    exact kont h2 k2
  refine r_aload_0 rfl ?_
  refine r_iload_5 rfl ?_
  refine r_push rfl ?_
  refine r_invvP_2 rfl (by assumption) rfl rfl (by decide) (c_of5 mm (by omega)) ?_
  refine r_push rfl ?_
  refine r_icne rfl (fun c_59 => ?_) (fun c_59 => ?_)
  · have c1 : m (38 + 6 * p) = 0 := Decidable.not_not.mp (fun z => c_59 (i1.mpr z))
    obtain ⟨t1, t2, t3⟩ := trF_ok v yb hp
    have hp1 : p < nP (trF m p) := by rw [t3.np]; exact hp
    refine r_aload_0 rfl ?_
    refine r_iload_5 rfl ?_
    refine r_invvF rfl rfl o rfl rfl (by decide) (c_mAsk q hp) ?_
    rintro h2 ⟨g2, mm2, e17, -, -, q2⟩
    refine r_aload_0 rfl ?_
    refine r_iload_5 rfl ?_
    refine r_push rfl ?_
    refine r_push rfl ?_
    refine r_aload_0 rfl ?_
    refine r_iload_5 rfl ?_
    refine r_push rfl ?_
    refine r_invvP_2 rfl mm2.1 rfl rfl (by decide) (c_of4 mm2 (by omega)) ?_
    refine r_aload_0 rfl ?_
    refine r_getf rfl mm2.1 rfl ?_
    rw [e17]
    refine r_iadd rfl ?_
    refine r_invP_2 rfl rfl (by decide) (c_lesser _ _) ?_
    refine r_invvV rfl rfl mm2.1 rfl rfl (by decide) (c_pt4 mm2 (by omega)) ?_
    have q3 : ML G bs y h0 g0 b (trF m p) _ := q2.row ⟨t1, t2, t3⟩
    obtain ⟨g3, mm3⟩ := q3.o
    refine r_aload_0 rfl ?_
    refine r_iload_5 rfl ?_
    refine r_invvF rfl rfl mm3.1 rfl rfl (by decide) (c_mAsk q3 hp1) ?_
    rintro h4 ⟨g4, mm4, -, -, e19, q4⟩
    refine r_iload_2 rfl ?_
    cases hdr : dr with
    | false =>
      subst hdr
      have et : tirF false c m p = (c, trF m p) := by unfold tirF; rw [if_neg (fun z => z c1), if_pos rfl]
      rw [et] at fin
      refine r_ifeqT rfl rfl ?_
      exact fin h4 c rfl q4
    | true =>
      subst hdr
      refine r_ifeqF rfl (by decide) ?_
      refine r_aload_0 rfl ?_
      refine r_push rfl ?_
      refine r_invvE rfl rfl mm4.1 rfl rfl (by decide) (c_mdraw5 q4 ⟨_, mm4, e19⟩) ?_
      rintro v h5 ⟨rfl, g5, mm5, e5, q5⟩
      have ok4 := seed_ok t1 t2 (sdF (trF m p))
      obtain ⟨d, hd, ed⟩ := drF_lo (sdF (trF m p))
      have hd1 : drF (sdF (trF m p)) < 100 := by rw [ed]; exact nI_lt hd (by decide)
      have hle := huM_le (m := trF m p) (p := p) hd1
      have hsd : huF (upd (trF m p) 8 (sdF (trF m p))) p = huF (trF m p) p := huF_seed (by omega)
      refine r_push rfl ?_
      refine r_aload_0 rfl ?_
      refine r_getf rfl mm5.1 rfl ?_
      rw [e5]
      refine r_invP_2 rfl rfl (by decide) (c_lesser _ _) ?_
      refine r_iclt rfl (fun c5 => ?_) (fun c5 => ?_)
      · have et : tirF true c m p = (c + 1, upd (upd (trF m p) 8 (sdF (trF m p))) (38 + 6 * p) 1) := by
          unfold tirF
          rw [if_neg (fun z => z c1), if_neg (by decide), if_neg (by rw [hsd, ← hle]; exact Int32.not_le.mpr c5)]
        rw [et] at fin
        have ok5 := hurt_ok (x := 1) (p := p) ok4.1 ok4.2.1 (by rw [ok4.2.2.np]; exact hp1) ⟨1, by decide, rfl⟩
        refine r_aload_0 rfl ?_
        refine r_iload_5 rfl ?_
        refine r_push rfl ?_
        refine r_push rfl ?_
        refine r_invvV rfl rfl mm5.1 rfl rfl (by decide) (c_pt5 mm5 (by omega)) ?_
        refine r_iinc_3 rfl ?_
        exact fin _ _ rfl (q5.row ok5)
      · have et : tirF true c m p = (c, upd (trF m p) 8 (sdF (trF m p))) := by
          unfold tirF
          rw [if_neg (fun z => z c1), if_neg (by decide), if_pos (by rw [hsd, ← hle]; exact c5)]
        rw [et] at fin
        refine r_goto rfl ?_
        exact fin _ _ rfl q5
  · refine r_goto rfl ?_
    have et : tirF dr c m p = (c, m) := by unfold tirF; rw [if_pos (i1.mp (by first | exact c_59 | exact Decidable.not_not.mp c_59))]
    rw [et] at fin
    exact fin _ _ rfl q
theorem c_mpasses (q : ML G bs y h0 g0 b m h) {n : Nat} (hn : n ≤ 200) (dr : Bool) : Ev G 34 m_X6_passes [.ref y, .int (nI n), .int (bI dr)] h (fun v h' => v = .int (hourN dr m n).1 ∧ ML G bs y h0 g0 b (hourN dr m n).2 h') := by
  obtain ⟨-, -, v0, y0, -, -, -⟩ := id q
  refine wc_in mt_X6_passes rfl (L := [.ref y, .int (nI n), .int (bI dr), am_un, am_un, am_un]) rfl ?_
  refine r_push rfl ?_
  refine r_istore_3 rfl ?_
  refine r_push rfl ?_
  refine r_istore_4 rfl ?_
  refine wp_forH n (fun j L h' => ∃ x5, L = [.ref y, .int (nI n), .int (bI dr), .int (hourN dr m j).1, .int (nI j), x5] ∧ ML G bs y h0 g0 b (hourN dr m j).2 h') (fun j L h' hj hI kont => ?_) (fun L h' hI => ?_) _ _ ⟨am_un, rfl, q⟩
  · obtain ⟨x5, rfl, q1⟩ := hI
    obtain ⟨v1, y1, k1⟩ := hourN_ok (dr := dr) v0 y0 j
    have kont1 : ∀ h2 x6 (c2 : Int32), c2 = (hourN dr m j).1 + (hourF dr (hourN dr m j).2).1 → ML G bs y h0 g0 b (hourF dr (hourN dr m j).2).2 h2 → Wp G 34 mt_X6_passes 184 [.ref y, .int (nI n), .int (bI dr), .int c2, .int (nI j), x6] [] h2 (fun R => ∃ v h', R = .inl (some v, h') ∧ v = .int (hourN dr m n).1 ∧ ML G bs y h0 g0 b (hourN dr m n).2 h') := by
      rintro h2 x6 c2 rfl q2
      refine r_iinc_4 rfl ?_
      refine r_goto rfl ?_
      rw [nI_1]
      exact kont _ _ ⟨x6, rfl, q2⟩
    clear kont
    generalize (hourN dr m j).1 = c0 at *
    generalize (hourN dr m j).2 = mk at *
    refine r_iload_4 rfl ?_
    refine r_iload_1 rfl ?_
    refine r_icgeF rfl (nI_lt hj (by omega)) ?_
    refine r_push rfl ?_
    refine r_istore_5 rfl ?_
    refine wp_forHK (nP mk) (fun i => [.ref y, .int (nI n), .int (bI dr), .int c0, .int (nI j), .int (nI i)]) (fun i h' => ML G bs y h0 g0 b (goN mk i) h') (fun i h' hi hK kont => ?_) (fun h' hK => ?_) q1
    · obtain ⟨g, mm⟩ := hK.o
      have o := mm.1; have o1 := mm.2
      obtain ⟨v2, y2, k2⟩ := goN_ok v1 y1 i (by omega)
      have e3 : goN mk i 3 = nI (nP mk) := by rw [k2.2.1]; exact v1.pp.1
      have hP6 := v1.pp.2
      refine r_iload_5 rfl ?_
      refine r_aload_0 rfl ?_
      refine r_getf rfl (by assumption) (by rfl) ?_
      refine r_push rfl ?_
      refine r_iald rfl (o1) (show (3 : Int32) = nI 3 from rfl) (by first | assumption | omega) (by first | decide | omega) ?_
      refine r_icgeF rfl (by rw [e3]; exact nI_lt hi (by omega)) ?_
      refine r_aload_0 rfl ?_
      refine r_iload_5 rfl ?_
      refine r_invvF rfl rfl (by assumption) rfl rfl (by decide) (c_mwalks hK (by rw [k2.np]; exact hi)) ?_
      rintro h2 q2
      refine r_iinc_5 rfl ?_
      refine r_goto rfl ?_
      rw [nI_1]
      exact kont _ q2
    · obtain ⟨g, mm⟩ := hK.o
      have o := mm.1; have o1 := mm.2
      obtain ⟨v2, y2, k2⟩ := goN_ok v1 y1 _ (Nat.le_refl _)
      have e3 : goN mk (nP mk) 3 = nI (nP mk) := by rw [k2.2.1]; exact v1.pp.1
      have hP6 := v1.pp.2
      have eF : hourF dr mk = ((tirN dr (goN mk (nP mk)) (nP mk)).1, endF (tirN dr (goN mk (nP mk)) (nP mk)).2) := rfl
      rw [eF] at kont1
      generalize goN mk (nP mk) = m1 at *
      have ePm : nP m1 = nP mk := k2.np
      refine r_iload_5 rfl ?_
      refine r_aload_0 rfl ?_
      refine r_getf rfl (by assumption) (by rfl) ?_
      refine r_push rfl ?_
      refine r_iald rfl (o1) (show (3 : Int32) = nI 3 from rfl) (by first | assumption | omega) (by first | decide | omega) ?_
      refine r_icgeT rfl (by rw [e3]; exact Int32.le_refl _) ?_
      refine r_push rfl ?_
      refine r_istore_5 rfl ?_
      rw [show (Value.int c0 : Value) = .int (c0 + (tirN dr m1 0).1) from congrArg Value.int (Int32.add_zero c0).symm]
      refine wp_forHK (nP mk) (fun i => [.ref y, .int (nI n), .int (bI dr), .int (c0 + (tirN dr m1 i).1), .int (nI j), .int (nI i)]) (fun i h' => ML G bs y h0 g0 b (tirN dr m1 i).2 h') (fun i h' hi hK kont => ?_) (fun h' hK => ?_) ?_
      · obtain ⟨g, mm⟩ := hK.o
        have o := mm.1; have o1 := mm.2
        obtain ⟨v3, y3, k3⟩ := tirN_ok (dr := dr) v2 y2 i (by omega)
        have e3 : (tirN dr m1 i).2 3 = nI (nP mk) := by rw [k3.2.1]; exact e3
        obtain ⟨e4, e5⟩ := tirF_c (dr := dr) (c0 := c0) (c := (tirN dr m1 i).1) (m := (tirN dr m1 i).2) (p := i)
        have en : tirN dr m1 (i + 1) = tirF dr (tirN dr m1 i).1 (tirN dr m1 i).2 i := rfl
        rw [en, ← e4, ← e5] at kont
        refine r_iload_5 rfl ?_
        refine r_aload_0 rfl ?_
        refine r_getf rfl (by assumption) (by rfl) ?_
        refine r_push rfl ?_
        refine r_iald rfl (o1) (show (3 : Int32) = nI 3 from rfl) (by first | assumption | omega) (by first | decide | omega) ?_
        refine r_icgeF rfl (by rw [e3]; exact nI_lt hi (by omega)) ?_
        exact c_mtire hK (by rw [k3.np, ePm]; exact hi) kont
      · obtain ⟨g, mm⟩ := hK.o
        have o := mm.1; have o1 := mm.2
        obtain ⟨v3, y3, k3⟩ := tirN_ok (dr := dr) v2 y2 (nP mk) (by omega)
        have e3 : (tirN dr m1 (nP mk)).2 3 = nI (nP mk) := by rw [k3.2.1]; exact e3
        have okE := endF_ok v3 y3
        generalize (tirN dr m1 (nP mk)).1 = c3 at *
        generalize (tirN dr m1 (nP mk)).2 = m3 at *
        have kk : c3 = c3 := rfl
        refine r_iload_5 rfl ?_
        refine r_aload_0 rfl ?_
        refine r_getf rfl (by assumption) (by rfl) ?_
        refine r_push rfl ?_
        refine r_iald rfl (o1) (show (3 : Int32) = nI 3 from rfl) (by first | assumption | omega) (by first | decide | omega) ?_
        refine r_icgeT rfl (by rw [e3]; exact Int32.le_refl _) ?_
        refine r_aload_0 rfl ?_
        refine r_getf rfl (by assumption) (by rfl) ?_
        refine r_push rfl ?_
        refine r_iald rfl (o1) (show (5 : Int32) = nI 5 from rfl) (by first | assumption | omega) (by first | decide | omega) ?_
        refine r_push rfl ?_
        refine r_icne rfl (fun c_152 => ?_) (fun c_152 => ?_)
        · refine r_aload_0 rfl ?_
          refine r_getf rfl (by assumption) (by rfl) ?_
          refine r_push rfl ?_
          refine r_dup2 rfl ?_
          refine r_iald rfl (o1) (show (5 : Int32) = nI 5 from rfl) (by first | assumption | omega) (by first | decide | omega) ?_
          refine r_push rfl ?_
          refine r_iadd rfl ?_
          refine r_iast rfl (o1) (show (5 : Int32) = nI 5 from rfl) (by first | assumption | omega) (by first | decide | omega) ?_
          have eE : endF m3 = if rmF (m3 5 + 1) 24 ≠ 0 then upd m3 5 (m3 5 + 1) else dawnF (upd m3 5 (m3 5 + 1)) := by unfold endF; rw [if_neg c_152]
          have q4 : ML G bs y h0 g0 b (upd m3 5 (m3 5 + 1)) _ := hK.row ⟨v3.u (Or.inl (by omega)), y3.u v3.ss.2 (by omega), KR.u (by omega)⟩
          obtain ⟨g4, mm4⟩ := q4.o
          refine r_aload_0 rfl ?_
          refine r_getf rfl mm4.1 rfl ?_
          refine r_push rfl ?_
          refine r_iald rfl mm4.2 (show (5 : Int32) = nI 5 from rfl) (by decide) (by decide) ?_
          refine r_push rfl ?_
          refine r_irem rfl (by decide) ?_
          rw [show upd m3 5 (m3 5 + 1) 5 = m3 5 + 1 from rfl]
          refine r_ifne rfl (fun c => ?_) (fun c => ?_)
          · have c9 : rmF (m3 5 + 1) 24 ≠ 0 := c
            rw [if_pos c9] at eE
            rw [eE] at kont1
            exact kont1 _ _ _ rfl q4
          · have c9 : rmF (m3 5 + 1) 24 = 0 := c
            rw [if_neg (fun z => z c9)] at eE
            rw [eE] at kont1
            refine r_aload_0 rfl ?_
            refine r_invvF rfl rfl mm4.1 rfl rfl (by decide) (c_mdawns q4) ?_
            rintro h5 q5
            exact kont1 _ _ _ rfl q5
        · refine r_goto rfl ?_
          have eE : endF m3 = m3 := by unfold endF; rw [if_pos (by first | exact c_152 | exact Decidable.not_not.mp c_152)]
          rw [eE] at kont1
          exact kont1 _ _ _ rfl hK
      · show ML G bs y h0 g0 b m1 h'
        exact hK
  · obtain ⟨x5, rfl, q1⟩ := hI
    refine r_iload_4 rfl ?_
    refine r_iload_1 rfl ?_
    refine r_icgeT rfl (Int32.le_refl _) ?_
    refine r_iload_3 rfl ?_
    refine r_iret rfl ?_
    exact ⟨_, _, rfl, rfl, q1⟩
end
