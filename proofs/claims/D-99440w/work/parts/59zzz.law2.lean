/-! THE LAW'S LOOP -/
set_option maxRecDepth 100000
theorem and_63 (v : Int32) : ∃ c, c < 64 ∧ v &&& 63 = nI c := by
  refine ⟨bsN (fun i => tb v i) 6, Nat.lt_of_lt_of_le bsN_lt (by decide), ?_⟩
  apply tb_ext
  intro i hi
  have t63 : ∀ i, i < 32 → tb 63 i = decide (i < 6) := by decide +kernel
  rw [tb_and, t63 i hi, tb_nI hi, bsN_bit, Bool.and_comm]
theorem le_st {A B C D E k w : Nat} (h1 : A ≤ B + C + w) (h2 : B + C ≤ D + k + E) : A ≤ D + k + (E + w) := by omega
section
variable {G : am_G} {bs x s n : Nat} {h : am_H} {f : Nat → Int32}
/-- the law answers true -/
theorem c_law (hw : HW h) (og : OG G h.2.1 h) (hs : h.1 s = some (.inl (100, n, .inl f))) (hn : n ≤ 384) : Ev G 60 m_L_law [.ref s] h (fun v h' => v = .int 1 ∧ h'.2.1 ≤ h.2.1 + 603072 ∧ h'.2.2 ≤ h.2.2 + 7198826) := by
  have hsb : s < h.2.1 := hw _ _ hs
  refine wc_in mt_L_law rfl (L := [.ref s, am_un, am_un, am_un, am_un, am_un, am_un]) rfl ?_
  refine c_begin (x := h.2.1) hw og (Nat.le_refl _) rfl (fun h0 st0 F0 => ?_)
  obtain ⟨x, ex⟩ : ∃ x, x = h.2.1 := ⟨_, rfl⟩
  rw [← ex] at og hsb st0 ⊢
  have hs0 := F0.k hs (fun z => z)
  have z1 := F0.2.2.1.2; have z2 := F0.2.2.2.2
  have key : ∀ (d j : Nat) (h1 : am_H) (a : AA) (X5 X6 : Value), j + d = n / 6 → STA G x x h1 a → h1.1 s = some (.inl (100, n, .inl f)) → h1.2.1 + 35 * a.len ≤ h.2.1 + 98 + 1000 * j → h1.2.2 + 5600 * a.len ≤ h.2.2 + 30000 + 112006 * j → Wp G 60 mt_L_law 23 (LL x s j X5 X6) [] h1 (fun R => ∃ v h', R = .inl (some v, h') ∧ v = .int 1 ∧ h'.2.1 ≤ x + 603072 ∧ h'.2.2 ≤ h.2.2 + 7198826) := by
    intro d
    induction d with
    | zero =>
      intro j h1 a X5 X6 hj st hs1 c1 c2
      have lt : nI n - 6 < nI (6 * j) := by
        by_cases c : 6 ≤ n
        · rw [show (6 : Int32) = nI 6 from rfl, nI_sub c]
          exact nI_lt (by omega) (by omega)
        · have : j = 0 := by omega
          subst this
          have key : ∀ n, n < 6 → nI n - 6 < nI (6 * 0) := by decide
          exact key n (by omega)
      refine r_iload_4 rfl ?_
      refine r_aload_0 rfl ?_
      refine r_alen rfl (hs1) ?_
      refine r_push rfl ?_
      refine r_isub rfl ?_
      refine r_icgtT rfl (lt) ?_
      refine r_push rfl ?_
      refine r_zret rfl (by first | decide | assumption) ?_
      exact ⟨_, _, rfl, rfl, by omega, by omega⟩
    | succ d ih =>
      intro j h1 a X5 X6 hj st hs1 c1 c2
      have hj6 : 6 * j + 6 ≤ n := by omega
      have le : nI (6 * j) ≤ nI n - 6 := by
        rw [show (6 : Int32) = nI 6 from rfl, nI_sub (by omega)]
        exact nI_le (by omega) (by omega)
      have kont : LK G x x s j h1 a (fun R => ∃ v h', R = .inl (some v, h') ∧ v = .int 1 ∧ h'.2.1 ≤ x + 603072 ∧ h'.2.2 ≤ h.2.2 + 7198826) := by
        rintro h2 X5 X6 ⟨a', st', q1, q2, q3⟩
        refine r_iinc_4 rfl ?_
        refine r_goto rfl ?_
        rw [show nI (6 * j) + 6 = nI (6 * (j + 1)) from nI_add _ 6]
        have g1 : j + 1 + d = n / 6 := by omega
        have g2 := q3 _ _ hsb hs1
        have g3 : h2.2.1 + 35 * a'.len ≤ h.2.1 + 98 + 1000 * (j + 1) := by omega
        have g4 : h2.2.2 + 5600 * a'.len ≤ h.2.2 + 30000 + 112006 * (j + 1) := by rw [Nat.mul_succ]; exact le_st q1 c2
        exact ih (j + 1) h2 a' X5 X6 g1 st' g2 g3 g4
      obtain ⟨c, hc, ec⟩ := and_63 (f (6 * j))
      refine r_iload_4 rfl ?_
      refine r_aload_0 rfl ?_
      refine r_alen rfl (hs1) ?_
      refine r_push rfl ?_
      refine r_isub rfl ?_
      refine r_icgtF rfl (le) ?_
      refine r_aload_0 rfl ?_
      refine r_iload_4 rfl ?_
      refine r_ialdO rfl (hs1) (rfl) (show 6 * j < n by omega) (show n < 2 ^ 31 by omega) ?_
      refine r_push rfl ?_
      refine r_iand rfl ?_
      rw [ec]
      skip
      clear ec ih
      by_cases c46 : c < 46
      · rcases (show c = 0 ∨ c = 1 ∨ c = 2 ∨ c = 3 ∨ c = 4 ∨ c = 5 ∨ c = 6 ∨ c = 7 ∨ c = 8 ∨ c = 9 ∨ c = 10 ∨ c = 11 ∨ c = 12 ∨ c = 13 ∨ c = 14 ∨ c = 15 ∨ c = 16 ∨ c = 17 ∨ c = 18 ∨ c = 19 ∨ c = 20 ∨ c = 21 ∨ c = 22 ∨ c = 23 ∨ c = 24 ∨ c = 25 ∨ c = 26 ∨ c = 27 ∨ c = 28 ∨ c = 29 ∨ c = 30 ∨ c = 31 ∨ c = 32 ∨ c = 33 ∨ c = 34 ∨ c = 35 ∨ c = 36 ∨ c = 37 ∨ c = 38 ∨ c = 39 ∨ c = 40 ∨ c = 41 ∨ c = 42 ∨ c = 43 ∨ c = 44 ∨ c = 45 by omega) with rfl | rfl | rfl | rfl | rfl | rfl | rfl | rfl | rfl | rfl | rfl | rfl | rfl | rfl | rfl | rfl | rfl | rfl | rfl | rfl | rfl | rfl | rfl | rfl | rfl | rfl | rfl | rfl | rfl | rfl | rfl | rfl | rfl | rfl | rfl | rfl | rfl | rfl | rfl | rfl | rfl | rfl | rfl | rfl | rfl | rfl
        · exact r_sw (nx := 240) rfl rfl (k_feed hs1 hsb hj6 hn st kont)
        · exact r_sw (nx := 313) rfl rfl (k_end hs1 hsb hj6 hn st kont)
        · exact r_sw (nx := 338) rfl rfl (k_valley hs1 hsb hj6 hn st kont)
        · exact r_sw (nx := 382) rfl rfl (k_law hs1 hsb hj6 hn st kont)
        · exact r_sw (nx := 426) rfl rfl (k_fault hs1 hsb hj6 hn st kont)
        · exact r_sw (nx := 439) rfl rfl (k_person hs1 hsb hj6 hn st kont)
        · exact r_sw (nx := 507) rfl rfl (k_does hs1 hsb hj6 hn st kont)
        · exact r_sw (nx := 575) rfl rfl (k_stone hs1 hsb hj6 hn st kont)
        · exact r_sw (nx := 643) rfl rfl (k_place hs1 hsb hj6 hn st kont)
        · exact r_sw (nx := 711) rfl rfl (k_lend hs1 hsb hj6 hn st kont)
        · exact r_sw (nx := 791) rfl rfl (k_pay hs1 hsb hj6 hn st kont)
        · exact r_sw (nx := 847) rfl rfl (k_split hs1 hsb hj6 hn st kont)
        · exact r_sw (nx := 903) rfl rfl (k_pass hs1 hsb hj6 hn st kont)
        · exact r_sw (nx := 971) rfl rfl (k_lay hs1 hsb hj6 hn st kont)
        · exact r_sw (nx := 1027) rfl rfl (k_lift hs1 hsb hj6 hn st kont)
        · exact r_sw (nx := 1095) rfl rfl (k_goal hs1 hsb hj6 hn st kont)
        · exact r_sw (nx := 1163) rfl rfl (k_rest hs1 hsb hj6 hn st kont)
        · exact r_sw (nx := 1219) rfl rfl (k_hours hs1 hsb hj6 hn st kont)
        · exact r_sw (nx := 1275) rfl rfl (k_way hs1 hsb hj6 hn st kont)
        · exact r_sw (nx := 1343) rfl rfl (k_soonest hs1 hsb hj6 hn st kont)
        · exact r_sw (nx := 1399) rfl rfl (k_cross hs1 hsb hj6 hn st kont)
        · exact r_sw (nx := 1462) rfl rfl (k_shed hs1 hsb hj6 hn st kont)
        · exact r_sw (nx := 1518) rfl rfl (k_share hs1 hsb hj6 hn st kont)
        · exact r_sw (nx := 1586) rfl rfl (k_goes hs1 hsb hj6 hn st kont)
        · exact r_sw (nx := 1599) rfl rfl (k_pays hs1 hsb hj6 hn st kont)
        · exact r_sw (nx := 1683) rfl rfl (k_first hs1 hsb hj6 hn st kont)
        · exact r_sw (nx := 1739) rfl rfl (k_owes hs1 hsb hj6 hn st kont)
        · exact r_sw (nx := 1814) rfl rfl (k_rests hs1 hsb hj6 hn st kont)
        · exact r_sw (nx := 1894) rfl rfl (k_scales hs1 hsb hj6 hn st kont)
        · exact r_sw (nx := 1966) rfl rfl (k_weigh hs1 hsb hj6 hn st kont)
        · exact r_sw (nx := 2010) rfl rfl (k_meet hs1 hsb hj6 hn st kont)
        · exact r_sw (nx := 2023) rfl rfl (k_last hs1 hsb hj6 hn st kont)
        · exact r_sw (nx := 2064) rfl rfl (k_heap hs1 hsb hj6 hn st kont)
        · exact r_sw (nx := 2077) rfl rfl (k_pairs hs1 hsb hj6 hn st kont)
        · exact r_sw (nx := 2090) rfl rfl (k_heaviest hs1 hsb hj6 hn st kont)
        · exact r_sw (nx := 2103) rfl rfl (k_gravel hs1 hsb hj6 hn st kont)
        · exact r_sw (nx := 2159) rfl rfl (k_ahead hs1 hsb hj6 hn st kont)
        · exact r_sw (nx := 2239) rfl rfl (k_trial hs1 hsb hj6 hn st kont)
        · exact r_sw (nx := 2323) rfl rfl (k_span hs1 hsb hj6 hn st kont)
        · exact r_sw (nx := 2407) rfl rfl (k_led hs1 hsb hj6 hn st kont)
        · exact r_sw (nx := 2491) rfl rfl (k_log hs1 hsb hj6 hn st kont)
        · exact r_sw (nx := 2559) rfl rfl (k_seed hs1 hsb hj6 hn st kont)
        · exact r_sw (nx := 2584) rfl rfl (k_undo hs1 hsb hj6 hn st kont)
        · exact r_sw (nx := 2597) rfl rfl (k_image hs1 hsb hj6 hn st kont)
        · exact r_sw (nx := 2608) rfl rfl (k_back hs1 hsb hj6 hn st kont)
        · exact r_sw (nx := 2621) rfl rfl (k_count hs1 hsb hj6 hn st kont)
      · have e2 : am_sw (nI c) 2646 [(0, 240), (1, 313), (2, 338), (3, 382), (4, 426), (5, 439), (6, 507), (7, 575), (8, 643), (9, 711), (10, 791), (11, 847), (12, 903), (13, 971), (14, 1027), (15, 1095), (16, 1163), (17, 1219), (18, 1275), (19, 1343), (20, 1399), (21, 1462), (22, 1518), (23, 1586), (24, 1599), (25, 1683), (26, 1739), (27, 1814), (28, 1894), (29, 1966), (30, 2010), (31, 2023), (32, 2064), (33, 2077), (34, 2090), (35, 2103), (36, 2159), (37, 2239), (38, 2323), (39, 2407), (40, 2491), (41, 2559), (42, 2584), (43, 2597), (44, 2608), (45, 2621)] = 2646 := by
          have all : ∀ c, c < 64 → ¬ c < 46 → am_sw (nI c) 2646 [(0, 240), (1, 313), (2, 338), (3, 382), (4, 426), (5, 439), (6, 507), (7, 575), (8, 643), (9, 711), (10, 791), (11, 847), (12, 903), (13, 971), (14, 1027), (15, 1095), (16, 1163), (17, 1219), (18, 1275), (19, 1343), (20, 1399), (21, 1462), (22, 1518), (23, 1586), (24, 1599), (25, 1683), (26, 1739), (27, 1814), (28, 1894), (29, 1966), (30, 2010), (31, 2023), (32, 2064), (33, 2077), (34, 2090), (35, 2103), (36, 2159), (37, 2239), (38, 2323), (39, 2407), (40, 2491), (41, 2559), (42, 2584), (43, 2597), (44, 2608), (45, 2621)] = 2646 := by decide +kernel
          exact all c hc c46
        refine r_sw rfl e2 ?_
        exact kont h1 _ _ ⟨a, st, by omega, by omega, fun _ _ _ z => z⟩
  refine key (n / 6) 0 h0 _ _ _ (by omega) st0 hs0 ?_ ?_
  · show h0.2.1 + 35 * 0 ≤ _; omega
  · show h0.2.2 + 5600 * 0 ≤ _; omega
end
