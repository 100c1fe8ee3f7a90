/-! THE MODEL reads: atoms -/
set_option maxRecDepth 100000
section
variable {T : Nat → Int32} {e y bs : Nat} {g g' : Nat → Int32} {h : am_H} {G : am_G} {F : Fc}
theorem kAtomB {m D d : Nat} {it : Option (Nat → RD Cd)} (hm : e ≤ m) (hd : 9 ≤ d) (hD : D ≤ 6) (S : MS G bs h y g T e F) (h12 : g 12 = -1) (h13 : g 13 = nI (6 - D)) (h0z : it = none → D = 0)
    (IT : ∀ fi, it = some fi → 1 ≤ D ∧ ∃ m1 d1 d2, (e ≤ m1 ∧ m1 + 1 ≤ m) ∧ d1 < d ∧ d2 < d ∧ mC m1 T G h y e (upd g 13 (nI (6 - D) + 1)) F d1 m_X6_atom fi ∧ mC m1 T G h y e (upd g 13 (nI (6 - D) + 1)) F d2 m_X6_some (orF T e fi)) : mC m T G h y e g F d m_X6_atom (atomB T e it) := by
  intro a ha
  have he := S.e400
  have hs := sk_le T ha
  have hb := wb_le T ha
  have hsg := sk_ge T e a
  have hbg := wb_ge T e a
  have deep : ∀ a1, am_set (mK h y g a1) y (.inr (16, am_st (mobj y (upd g 11 (nI a1))) 13 (.int (nI (6 - D) + 1)))) = mK h y (upd g 13 (nI (6 - D) + 1)) a1 := fun a1 => by
    rw [mo_13, am_set_set, upd_comm (by decide)]
  have back : ∀ a1 (d9 : Int32), am_set (mh h y (upd (upd g 13 d9) 11 (nI a1))) y (.inr (16, am_st (mobj y (upd (upd g 13 d9) 11 (nI a1))) 13 (.int (g 13)))) = mK h y g a1 := fun a1 d9 => by
    rw [mo_13, am_set_set, upd_comm (by decide), upd_upd, upd_id rfl]
  have o0 : (nI (6 - D) = 6) ↔ D = 0 := by
    constructor
    · intro z
      have := (nI_eq (a := 6 - D) (b := 6) (by omega) (by decide)).mp z
      omega
    · rintro rfl; rfl
  obtain ⟨v1, gv1, c1⟩ := kHas S hs 19 w_not (by decide)
  rw [wd_sk, wb_sk, sk_idem] at c1
  -- the ends
  have tail : ∀ (res : RD Cd) (nb b : Bool) (g9 : Nat → Int32), (∀ R, R = .inl (some (.int (bI b)), am_set (mh h y g9) y (.inr (16, am_st (mobj y g9) 13 (.int (g9 13 - 1))))) → mQm m Bz h y g e res (bV F) R) → Wp G d mt_X6_atom 138 [.ref y, .int (nI (skF T e a)), .int (bI nb), .int (bI b)] [] (mh h y g9) (mQm m Bz h y g e res (bV F)) := by
    intro res nb b g9 hq
    refine r_aload_0 rfl ?_
    refine r_dupR rfl ?_
    refine r_getf rfl am_set_at rfl ?_
    refine r_push rfl ?_
    refine r_isub rfl ?_
    refine r_puti rfl am_set_at rfl ?_
    refine r_iload_3 rfl ?_
    refine r_zret rfl (bI_z _) ?_
    exact hq _ rfl
  -- deeper
  have down : ∀ (nb : Bool) (a1 : Nat), a1 ≤ e → D ≠ 0 → (∀ fi, it = some fi → Wp G d mt_X6_atom 66 [.ref y, .int (nI (skF T e a)), .int (bI nb), am_un] [] (mK h y (upd g 13 (nI (6 - D) + 1)) a1) (mQm m Bz h y g e (atomB T e it a) (bV F))) → Wp G d mt_X6_atom 40 [.ref y, .int (nI (skF T e a)), .int (bI nb), am_un] [] (mK h y g a1) (mQm m Bz h y g e (atomB T e it a) (bV F)) := by
    intro nb a1 ha1 hD0 k
    obtain ⟨fi, hfi⟩ : ∃ fi, it = some fi := by
      cases hit : it with
      | none => exact absurd (h0z hit) hD0
      | some fi => exact ⟨fi, rfl⟩
    refine r_aload_0 rfl ?_
    refine r_getf rfl am_set_at rfl ?_
    rw [show upd g 11 (nI a1) 13 = nI (6 - D) from h13]
    refine r_push rfl ?_
    refine r_icneT rfl (fun z => hD0 (o0.mp z)) ?_
    refine r_aload_0 rfl ?_
    refine r_dupR rfl ?_
    refine r_getf rfl am_set_at rfl ?_
    rw [show upd g 11 (nI a1) 13 = nI (6 - D) from h13]
    refine r_push rfl ?_
    refine r_iadd rfl ?_
    refine r_puti rfl am_set_at rfl ?_
    rw [deep]
    exact k fi hfi
  have stop : ∀ (nb : Bool) (a1 : Nat), a1 ≤ m → D = 0 → atomB T e it a = .inl (skF T e a) → Wp G d mt_X6_atom 40 [.ref y, .int (nI (skF T e a)), .int (bI nb), am_un] [] (mK h y g a1) (mQm m Bz h y g e (atomB T e it a) (bV F)) := by
    intro nb a1 ha1 hD0 ea
    rw [ea]
    refine r_aload_0 rfl ?_
    refine r_getf rfl am_set_at rfl ?_
    rw [show upd g 11 (nI a1) 13 = nI (6 - D) from h13]
    refine r_push rfl ?_
    refine r_icneF rfl (o0.mpr hD0) ?_
    refine r_aload_0 rfl ?_
    refine r_iload_1 rfl ?_
    refine r_invvV rfl rfl am_set_at rfl rfl (e := 0) (by omega) (kWrong h12) ?_
    refine r_push rfl ?_
    refine r_zret rfl (Or.inl rfl) ?_
    exact Or.inr ⟨_, a1, _, _, rfl, hs, ha1, Or.inl rfl, rfl⟩
  refine wc_in mt_X6_atom rfl (L := [.ref y, am_un, am_un, am_un]) rfl ?_
  refine r_aload_0 rfl ?_
  refine r_getf rfl am_set_at rfl ?_
  refine r_push rfl ?_
  refine r_iceqT rfl h12 ?_
  refine r_aload_0 rfl ?_
  refine r_invvU rfl rfl am_set_at rfl rfl (e := 2) (by omega) (kHere S ha) ?_
  refine r_istore_1 rfl ?_
  refine r_aload_0 rfl ?_
  refine r_globR rfl gv1 ?_
  refine r_invvU rfl rfl am_set_at rfl rfl (e := 5) (by omega) c1 ?_
  refine r_istore_2 rfl ?_
  refine r_iload_2 rfl ?_
  cases en : wdF T e a w_not with
  | true =>
    have es := not_paren en
    rw [if_pos rfl]
    refine r_ifneT rfl (by decide) ?_
    by_cases hD0 : D = 0
    · have hit : it = none := by
        cases hit : it with
        | none => rfl
        | some fi => exact absurd (IT fi hit).1 (by omega)
      exact stop true _ (by omega) hD0 (by rw [hit]; unfold atomB; rw [if_neg (by rw [es]; decide), if_pos en])
    · refine down true _ hb hD0 (fun fi hfi => ?_)
      obtain ⟨-, m1, d1, d2, hm1, hd1, hd2, IA, -⟩ := IT fi hfi
      have ea : atomB T e it a = rB (fi (wbF T e a)) fun c a => .inr (fun F => !c F, a) := by rw [hfi]; unfold atomB; rw [if_neg (by rw [es]; decide), if_pos en]
      rw [ea]
      refine r_push rfl ?_
      refine r_istore_3 rfl ?_
      refine r_iload_2 rfl ?_
      refine r_ifeqF rfl (by decide) ?_
      refine r_aload_0 rfl ?_
      refine r_invvR rfl rfl am_set_at rfl rfl hd1 (IA _ hb) ?_
      have neg : ∀ (b : Bool) (h' : am_H) (Q : am_O → Prop), Wp G d mt_X6_atom 138 [.ref y, .int (nI (skF T e a)), .int (bI true), .int (bI (!b))] [] h' Q → Wp G d mt_X6_atom 76 [.ref y, .int (nI (skF T e a)), .int (bI true), .int 0] [.int (bI b)] h' Q := by
        intro b h' Q k
        cases b
        · refine r_ifneF rfl rfl ?_
          refine r_push rfl ?_
          refine r_goto rfl ?_
          refine r_istore_3 rfl ?_
          refine r_goto rfl ?_
          exact k
        · refine r_ifneT rfl (by decide) ?_
          refine r_push rfl ?_
          refine r_istore_3 rfl ?_
          refine r_goto rfl ?_
          exact k
      rintro R (⟨t, a', q1, q2, rfl⟩ | ⟨z, a9, dp, v, q1, q2, q9, q3, rfl⟩)
      · rw [q1]
        refine neg _ _ _ (tail _ true _ _ (fun R hR => ?_))
        rw [hR, show upd (upd g 13 (nI (6 - D) + 1)) 11 (nI a') 13 = nI (6 - D) + 1 from rfl, Int32.add_sub_cancel, ← h13, back]
        exact Or.inl ⟨_, _, rfl, q2, rfl⟩
      · rw [q1]
        obtain ⟨b2, rfl⟩ := bz_b q3
        refine neg _ _ _ (tail _ true _ _ (fun R hR => ?_))
        rw [hR, mo_13, am_set_set, gF_u13, gF_d13]
        exact Or.inr ⟨_, _, _, _, rfl, q2, by omega, bI_z _, rfl⟩
  | false =>
    rw [if_neg (by decide)]
    refine r_ifneF rfl rfl ?_
    refine r_aload_0 rfl ?_
    refine r_push rfl ?_
    refine r_invvU rfl rfl am_set_at rfl rfl (e := 2) (by omega) (kSign S hs) ?_
    rw [sg_sk, sk_idem]
    cases es : sgF T e a 40 with
    | false =>
      have ea : atomB T e it a = plainF T e a := by unfold atomB; rw [if_neg (by rw [es]; decide), if_neg (by rw [en]; decide)]
      rw [ea]
      refine r_ifneF rfl rfl ?_
      refine r_aload_0 rfl ?_
      refine r_invvR rfl rfl am_set_at rfl rfl (e := 8) (by omega) (kPlain S hs h12) ?_
      rw [plain_sk]
      rintro R (⟨t, a', q1, q2, rfl⟩ | ⟨z, a9, dp, v, q1, q2, q9, q3, rfl⟩)
      · refine r_zret rfl (bI_z _) ?_
        exact Or.inl ⟨_, _, q1, q2, rfl⟩
      · refine r_zret rfl q3 ?_
        exact Or.inr ⟨_, _, _, _, q1, q2, by omega, q3, rfl⟩
    | true =>
      have hlt : skF T e a < e := by
        unfold sgF at es
        simp only [Bool.and_eq_true, decide_eq_true_eq] at es
        exact es.1
      refine r_ifneT rfl (by decide) ?_
      by_cases hD0 : D = 0
      · have hit : it = none := by
          cases hit : it with
          | none => rfl
          | some fi => exact absurd (IT fi hit).1 (by omega)
        exact stop false _ (by omega) hD0 (by rw [hit]; unfold atomB; rw [if_pos es])
      · refine down false _ hs hD0 (fun fi hfi => ?_)
        obtain ⟨-, m1, d1, d2, hm1, hd1, hd2, -, IC⟩ := IT fi hfi
        have ea : atomB T e it a = rB (orF T e fi (skF T e a + 1)) fun c a => closeF T e c a := by rw [hfi]; unfold atomB; rw [if_pos es]
        rw [ea]
        have S2 : MS G bs (mh h y (upd g 13 (nI (6 - D) + 1))) y (upd g 13 (nI (6 - D) + 1)) T e F := S.set rfl rfl rfl rfl
        refine r_push rfl ?_
        refine r_istore_3 rfl ?_
        refine r_iload_2 rfl ?_
        refine r_ifeqT rfl rfl ?_
        refine r_aload_0 rfl ?_
        refine r_dupR rfl ?_
        refine r_getf rfl am_set_at rfl ?_
        rw [upd_eq]
        refine r_push rfl ?_
        refine r_iadd rfl ?_
        rw [nI_1]
        refine r_puti rfl am_set_at rfl ?_
        rw [mo_11, upd_upd, am_set_set]
        refine r_aload_0 rfl ?_
        refine r_invvR rfl rfl am_set_at rfl rfl hd2 (IC _ (show skF T e a + 1 ≤ e by omega)) ?_
        rintro R (⟨t, a', q1, q2, rfl⟩ | ⟨z, a9, dp, v, q1, q2, q9, q3, rfl⟩)
        · rw [q1]
          show Wp G d mt_X6_atom 102 _ _ (mh h y (upd (upd g 13 (nI (6 - D) + 1)) 11 (nI a'))) (mQm m Bz h y g e (closeF T e t a') (bV F))
          have hs2 := sk_le T q2
          refine r_istore_3 rfl ?_
          refine r_aload_0 rfl ?_
          refine r_getf rfl am_set_at rfl ?_
          refine r_push rfl ?_
          refine r_icneF rfl h12 ?_
          refine r_aload_0 rfl ?_
          refine r_push rfl ?_
          have ks := kSign (G := G) S2 q2 (c := 41)
          rw [mK_mh, mK_mh] at ks
          refine r_invvU rfl rfl am_set_at rfl rfl (e := 2) (by omega) ks ?_
          cases ec : sgF T e a' 41 with
          | true =>
            have e1 : closeF T e t a' = .inr (t, skF T e a' + 1) := by unfold closeF; rw [if_pos ec]
            have hlt2 : skF T e a' < e := by
              unfold sgF at ec
              simp only [Bool.and_eq_true, decide_eq_true_eq] at ec
              exact ec.1
            rw [e1]
            refine r_ifneT rfl (by decide) ?_
            refine r_aload_0 rfl ?_
            refine r_dupR rfl ?_
            refine r_getf rfl am_set_at rfl ?_
            rw [upd_eq]
            refine r_push rfl ?_
            refine r_iadd rfl ?_
            rw [nI_1]
            refine r_puti rfl am_set_at rfl ?_
            rw [mo_11, upd_upd, am_set_set]
            refine tail _ false _ _ (fun R hR => ?_)
            rw [hR, show upd (upd g 13 (nI (6 - D) + 1)) 11 (nI (skF T e a' + 1)) 13 = nI (6 - D) + 1 from rfl, Int32.add_sub_cancel, ← h13, back]
            exact Or.inl ⟨_, _, rfl, by omega, rfl⟩
          | false =>
            have e1 : closeF T e t a' = .inl (skF T e a') := by unfold closeF; rw [if_neg (by rw [ec]; decide)]
            rw [e1]
            refine r_ifneF rfl rfl ?_
            refine r_aload_0 rfl ?_
            refine r_aload_0 rfl ?_
            refine r_getf rfl am_set_at rfl ?_
            rw [upd_eq]
            refine r_invvV rfl rfl am_set_at rfl rfl (e := 0) (by omega) (kWrong (g := upd g 13 (nI (6 - D) + 1)) h12) ?_
            refine r_aload_0 rfl ?_
            refine r_dupR rfl ?_
            refine r_getf rfl am_set_at rfl ?_
            refine r_push rfl ?_
            refine r_iadd rfl ?_
            refine r_puti rfl am_set_at rfl ?_
            rw [mo_11, am_set_set, gF_u11, show gF (upd g 13 (nI (6 - D) + 1)) (skF T e a') (nI (skF T e a')) ((upd g 13 (nI (6 - D) + 1)) 13) 11 = nI (skF T e a') from rfl, nI_1 (skF T e a')]
            refine tail _ false _ _ (fun R hR => ?_)
            rw [hR, mo_13, am_set_set, gF_u13, gF_d13]
            exact Or.inr ⟨_, _, _, _, rfl, hs2, by omega, bI_z _, rfl⟩
        · rw [q1]
          show Wp G d mt_X6_atom 102 _ _ (mh h y (gF (upd g 13 (nI (6 - D) + 1)) z (nI a9) dp)) (mQm m Bz h y g e (.inl z) (bV F))
          obtain ⟨b2, rfl⟩ := bz_b q3
          refine r_istore_3 rfl ?_
          refine r_aload_0 rfl ?_
          refine r_getf rfl am_set_at rfl ?_
          refine r_push rfl ?_
          refine r_icneT rfl (by rw [gF_12]; exact nI_ne1 (by omega)) ?_
          refine r_aload_0 rfl ?_
          refine r_dupR rfl ?_
          refine r_getf rfl am_set_at rfl ?_
          refine r_push rfl ?_
          refine r_iadd rfl ?_
          refine r_puti rfl am_set_at rfl ?_
          rw [mo_11, am_set_set, gF_u11, show gF (upd g 13 (nI (6 - D) + 1)) z (nI a9) dp 11 = nI a9 from rfl, nI_1 a9]
          refine tail _ false _ _ (fun R hR => ?_)
          rw [hR, mo_13, am_set_set, gF_u13, gF_d13]
          exact Or.inr ⟨_, _, _, _, rfl, q2, by omega, bI_z _, rfl⟩
theorem mC.mhg {m d k : Nat} {it : Nat → RD Cd} (q : mC m T G (mh h y g') y e g F d k it) : mC m T G h y e g F d k it := by
  intro a ha
  have := q a ha
  rw [mK_mh] at this
  refine wc_mono (fun R hR => ?_) this
  rcases hR with ⟨c, a', q1, q2, q3⟩ | ⟨z, a, d, v, q1, q2, q9, q3, q4⟩
  · exact Or.inl ⟨c, a', q1, q2, by rw [q3, mh_mh]⟩
  · exact Or.inr ⟨z, a, d, v, q1, q2, q9, q3, by rw [q4, mh_mh]⟩
theorem kOrOf {m dA : Nat} {it : Nat → RD Cd} (hA : 6 ≤ dA) (S : MS G bs h y g T e F) (h12 : g 12 = -1) (M : MON it) (IT : mC m T G h y e g F dA m_X6_atom it) : mC m T G h y e g F (dA + 2) m_X6_some (orF T e it) :=
  kSome (Nat.lt_succ_self _) (by omega) S h12 (mon_and M) (kEvery (Nat.lt_succ_self _) (by omega) S h12 M IT)
theorem kAtom : ∀ D {h : am_H} {g : Nat → Int32}, D ≤ 6 → MS G bs h y g T e F → g 12 = -1 → g 13 = nI (6 - D) → mC (e + D) T G h y e g F (9 + 3 * D) m_X6_atom (atomF T e D)
  | 0, h, g, hD, S, h12, h13 => kAtomB (by omega) (by omega) hD S h12 h13 (fun _ => rfl) (fun fi q => nomatch q)
  | D + 1, h, g, hD, S, h12, h13 => kAtomB (by omega) (by omega) hD S h12 h13 (fun q => nomatch q) (fun fi q => by
    cases q
    have S2 : MS G bs (mh h y (upd g 13 (nI (6 - (D + 1)) + 1))) y (upd g 13 (nI (6 - (D + 1)) + 1)) T e F := S.set rfl rfl rfl rfl
    have e13 : (upd g 13 (nI (6 - (D + 1)) + 1)) 13 = nI (6 - D) := by rw [upd_eq, nI_1]; congr 1; omega
    have IA := kAtom D (by omega) S2 h12 e13
    exact ⟨by omega, e + D, 9 + 3 * D, 9 + 3 * D + 2, ⟨by omega, by omega⟩, by omega, by omega, IA.mhg, (kOrOf (by omega) S2 h12 (mon_atom D) IA).mhg⟩)
theorem kSomeTop (S : MS G bs h y g T e F) (h12 : g 12 = -1) (h13 : g 13 = 0) : mC (e + 6) T G h y e g F 29 m_X6_some (orF T e (atomF T e 6)) :=
  kOrOf (by decide) S h12 (mon_atom 6) (kAtom 6 (by decide) S h12 h13)
end
