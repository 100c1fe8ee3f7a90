/-! THE MODEL reads: conditions -/
set_option maxRecDepth 100000
section
variable {T : Nat → Int32} {e : Nat}
theorem su_ge : ∀ n {s t : Sm} {a a' : Nat}, suL T e n s a = .inr (t, a') → a ≤ a'
  | 0, _, _, _, _, q => nomatch q
  | n + 1, s, t, a, a', q => by
    have hs := sk_ge T e a
    rw [suL] at q
    split at q
    · cases ep : partF T e (skF T e a + 1) with
      | inl z => rw [ep] at q; cases q
      | inr z =>
        obtain ⟨p, k⟩ := z
        rw [ep] at q
        have h1 := part_ge ep
        have h2 := su_ge n q
        omega
    · cases q; exact hs
theorem sum_ge {s : Sm} {a a' : Nat} (q : sumF T e a = .inr (s, a')) : a ≤ a' := by
  unfold sumF at q
  cases ep : partF T e a with
  | inl z => rw [ep] at q; cases q
  | inr z =>
    obtain ⟨p, k⟩ := z
    rw [ep] at q
    have h1 := part_ge ep
    have h2 := su_ge _ q
    omega
theorem cmp_ge {s : Sm} {c : Cd} {a a' : Nat} (q : cmpF T e s a = .inr (c, a')) : a ≤ a' := by
  have hs := sk_ge T e a
  unfold cmpF at q
  split at q
  · cases ep : sumF T e (skF T e a + 1) with
    | inl z => rw [ep] at q; cases q
    | inr z => obtain ⟨p, k⟩ := z; rw [ep] at q; cases q; have := sum_ge ep; omega
  · split at q
    · cases ep : sumF T e (skF T e a + 1) with
      | inl z => rw [ep] at q; cases q
      | inr z => obtain ⟨p, k⟩ := z; rw [ep] at q; cases q; have := sum_ge ep; omega
    · cases q
theorem plain_ge {c : Cd} {a a' : Nat} (q : plainF T e a = .inr (c, a')) : a ≤ a' := by
  have hs := sk_ge T e a
  have hb := wb_ge T e a
  unfold plainF at q
  split at q
  · cases q; omega
  · split at q
    · cases q; omega
    · cases ep : sumF T e a with
      | inl z => rw [ep] at q; cases q
      | inr z =>
        obtain ⟨p, k⟩ := z
        rw [ep] at q
        have h1 := sum_ge ep
        have h2 := cmp_ge q
        omega
/-- a parser that goes on -/
def MON (it : Nat → RD Cd) : Prop := ∀ a c a', it a = .inr (c, a') → a ≤ a'
theorem sq_ge {w : List Int32} {op : Bool → Bool → Bool} {it : Nat → RD Cd} (M : MON it) : ∀ n {c c' : Cd} {a a' : Nat}, sqL T e w op it n c a = .inr (c', a') → a ≤ a'
  | 0, _, _, _, _, q => nomatch q
  | n + 1, c, c', a, a', q => by
    have hs := sk_ge T e a
    have hb := wb_ge T e a
    rw [sqL] at q
    split at q
    · cases ep : it (wbF T e a) with
      | inl z => rw [ep] at q; cases q
      | inr z =>
        obtain ⟨p, k⟩ := z
        rw [ep] at q
        have h1 := M _ _ _ ep
        have h2 := sq_ge M n q
        omega
    · cases q; exact hs
theorem mon_and {it : Nat → RD Cd} (M : MON it) : MON (andF T e it) := by
  intro a c a' q
  unfold andF at q
  cases ep : it a with
  | inl z => rw [ep] at q; cases q
  | inr z =>
    obtain ⟨p, k⟩ := z
    rw [ep] at q
    have h1 := M _ _ _ ep
    have h2 := sq_ge M _ q
    omega
theorem mon_or {it : Nat → RD Cd} (M : MON it) : MON (orF T e it) := by
  intro a c a' q
  unfold orF at q
  cases ep : andF T e it a with
  | inl z => rw [ep] at q; cases q
  | inr z =>
    obtain ⟨p, k⟩ := z
    rw [ep] at q
    have h1 := mon_and M _ _ _ ep
    have h2 := sq_ge (mon_and M) _ q
    omega
theorem mon_atomB {it : Option (Nat → RD Cd)} (M : ∀ fi, it = some fi → MON fi) : MON (atomB T e it) := by
  intro a c a' q
  have hs := sk_ge T e a
  have hb := wb_ge T e a
  unfold atomB at q
  split at q
  · cases it with
    | none => cases q
    | some fi =>
      cases ep : orF T e fi (skF T e a + 1) with
      | inl z => simp only [ep] at q; cases q
      | inr z =>
        obtain ⟨p, k⟩ := z
        simp only [ep] at q
        have h1 := mon_or (M fi rfl) _ _ _ ep
        have h2 : closeF T e p k = .inr (c, a') := q
        unfold closeF at h2
        split at h2
        · cases h2
          have := sk_ge T e k
          omega
        · cases h2
  · split at q
    · cases it with
      | none => cases q
      | some fi =>
        cases ep : fi (wbF T e a) with
        | inl z => simp only [ep] at q; cases q
        | inr z =>
          obtain ⟨p, k⟩ := z
          simp only [ep] at q
          cases q
          have := M fi rfl _ _ _ ep
          omega
    · exact plain_ge q
theorem mon_atom : ∀ D, MON (atomF T e D)
  | 0 => mon_atomB (fun fi q => nomatch q)
  | D + 1 => mon_atomB (fun fi q => by cases q; exact mon_atom D)
theorem not_paren {a : Nat} (q : wdF T e a w_not = true) : sgF T e a 40 = false := by
  have h1 := of_decide_eq_true q
  unfold sgF
  have h2 := (sub_eq.mp h1)
  have h3 := h2.2 0 (by rw [h2.1]; decide)
  rw [Nat.add_zero] at h3
  rw [h3, show decide (w_not.getD 0 0 = 40) = false from by decide, Bool.and_false]
end
abbrev bV (F : Fc) : Cd → Int32 := fun c => bI (c F)
section
variable {T : Nat → Int32} {e y bs : Nat} {g g' : Nat → Int32} {h : am_H} {G : am_G} {F : Fc}
theorem bz_b {v : Int32} (q : Bz v) : ∃ b : Bool, v = bI b := q.elim (fun z => ⟨false, z⟩) (fun z => ⟨true, z⟩)
theorem bI_z (b : Bool) : Bz (bI b) := bI_01 b
theorem gF_d13 {z : Nat} {a b d : Int32} : gF (upd g 13 d) z a b = gF g z a b := by unfold gF; rw [upd_upd]
theorem gF_u11 {z : Nat} {a b x : Int32} : upd (gF g z a b) 11 x = gF g z x b := by
  unfold gF
  rw [upd_comm (by decide), upd_upd]
theorem gF_u13 {z : Nat} {a b x : Int32} : upd (gF g z a b) 13 x = gF g z a x := by
  unfold gF
  rw [upd_comm (show 12 ≠ 13 by decide), upd_comm (show 11 ≠ 13 by decide), upd_upd]
/-- an atom that is a word, or a comparison -/
theorem kPlain (S : MS G bs h y g T e F) {a : Nat} (ha : a ≤ e) (h12 : g 12 = -1) : Wc G 8 m_X6_plain [.ref y] (mK h y g a) (mQ Bz h y g e (plainF T e a) (bV F)) := by
  have he := S.e400
  have hs := sk_le T ha
  have hb := wb_le T ha
  obtain ⟨g15, g16, b7, b8⟩ := S.2.2.1
  obtain ⟨v1, gv1, c1⟩ := kHas S ha 20 w_there (by decide)
  obtain ⟨v2, gv2, c2⟩ := kHas S hs 21 w_light (by decide)
  rw [wd_sk, wb_sk, sk_idem] at c2
  have d7 : bI (decide (F 7 = 1)) = F 7 := by rcases b7 with z | z <;> rw [z] <;> rfl
  have d8 : bI (decide (F 8 = 1)) = F 8 := by rcases b8 with z | z <;> rw [z] <;> rfl
  refine wc_in mt_X6_plain rfl (L := [.ref y, am_un, am_un, am_un]) rfl ?_
  refine r_aload_0 rfl ?_
  refine r_globR rfl gv1 ?_
  refine r_invvU rfl rfl am_set_at rfl rfl (by decide) c1 ?_
  cases e1 : wdF T e a w_there with
  | true =>
    have ep : plainF T e a = .inr (fun F => decide (F 7 = 1), wbF T e a) := by unfold plainF; rw [if_pos e1]
    rw [ep, if_pos rfl]
    refine r_ifeqF rfl (by decide) ?_
    refine r_aload_0 rfl ?_
    refine r_getf rfl am_set_at rfl ?_
    refine r_zret rfl (show g 15 = 0 ∨ g 15 = 1 by rw [g15]; exact b7) ?_
    refine Or.inl ⟨_, _, rfl, hb, ?_⟩
    show Sum.inl (some (Value.int (g 15)), _) = Sum.inl (some (Value.int (bI (decide (F 7 = 1)))), _)
    rw [d7, g15]
  | false =>
    rw [if_neg (by decide)]
    refine r_ifeqT rfl rfl ?_
    refine r_aload_0 rfl ?_
    refine r_globR rfl gv2 ?_
    refine r_invvU rfl rfl am_set_at rfl rfl (by decide) c2 ?_
    cases e2 : wdF T e a w_light with
    | true =>
      have ep : plainF T e a = .inr (fun F => decide (F 8 = 1), wbF T e a) := by unfold plainF; rw [if_neg (by rw [e1]; decide), if_pos e2]
      rw [ep, if_pos rfl]
      refine r_ifeqF rfl (by decide) ?_
      refine r_aload_0 rfl ?_
      refine r_getf rfl am_set_at rfl ?_
      refine r_zret rfl (show g 16 = 0 ∨ g 16 = 1 by rw [g16]; exact b8) ?_
      refine Or.inl ⟨_, _, rfl, hb, ?_⟩
      show Sum.inl (some (Value.int (g 16)), _) = Sum.inl (some (Value.int (bI (decide (F 8 = 1)))), _)
      rw [d8, g16]
    | false =>
      have ep : plainF T e a = rB (sumF T e a) fun s a => cmpF T e s a := by unfold plainF; rw [if_neg (by rw [e1]; decide), if_neg (by rw [e2]; decide)]
      rw [ep, if_neg (by decide)]
      refine r_ifeqT rfl rfl ?_
      refine r_aload_0 rfl ?_
      refine r_invvR rfl rfl am_set_at rfl rfl (by decide) (kSum S hs h12) ?_
      rw [sum_sk]
      rintro R (⟨s, a1, q1, q2, rfl⟩ | ⟨z, a9, dp, v, q1, q2, q9, q3, rfl⟩)
      · rw [q1]
        show Wp G 8 mt_X6_plain 32 _ _ (mK h y g a1) (mQ Bz h y g e (cmpF T e s a1) (bV F))
        have hs1 := sk_le T q2
        have two : ∀ (lv : Bool), sgF T e a1 (if lv = true then 60 else 62) = true → (lv = false → sgF T e a1 60 = false) → Wp G 8 mt_X6_plain 73 [.ref y, .int (s F), .int (bI lv), am_un] [] (mK h y g (skF T e a1)) (mQ Bz h y g e (cmpF T e s a1) (bV F)) := by
          intro lv hl1 hl2
          have hlt : skF T e a1 < e := by
            unfold sgF at hl1
            simp only [Bool.and_eq_true, decide_eq_true_eq] at hl1
            exact hl1.1
          have ec : cmpF T e s a1 = rB (sumF T e (skF T e a1 + 1)) fun t a => .inr (fun F => if lv = true then decide (s F < t F) else decide (t F < s F), a) := by
            unfold cmpF
            cases lv
            · have hl3 : sgF T e a1 62 = true := hl1
              rw [if_neg (by rw [hl2 rfl]; decide), if_pos hl3]; rfl
            · have hl3 : sgF T e a1 60 = true := hl1
              rw [if_pos hl3]; rfl
          rw [ec]
          refine r_aload_0 rfl ?_
          refine r_dupR rfl ?_
          refine r_getf rfl am_set_at rfl ?_
          rw [upd_eq]
          refine r_push rfl ?_
          refine r_iadd rfl ?_
          rw [nI_1]
          refine r_puti rfl am_set_at rfl ?_
          rw [mo_11, upd_upd, am_set_set]
          refine r_aload_0 rfl ?_
          refine r_invvR rfl rfl am_set_at rfl rfl (by decide) (kSum S (show skF T e a1 + 1 ≤ e by omega) h12) ?_
          rintro R (⟨t, a2, q3, q4, rfl⟩ | ⟨z, a9, dp, v, q3, q4, q9, q5, rfl⟩)
          · rw [q3]
            show Wp G 8 mt_X6_plain 87 _ _ (mK h y g a2) (mQ Bz h y g e (.inr (_, a2)) (bV F))
            have fin : ∀ b : Bool, (if lv = true then decide (s F < t F) else decide (t F < s F)) = b → mQ Bz h y g e (.inr ((fun F => if lv = true then decide (s F < t F) else decide (t F < s F)), a2) : RD Cd) (bV F) (.inl (some (.int (bI b)), mK h y g a2)) := fun b hb => Or.inl ⟨_, _, rfl, q4, by show _ = Sum.inl (some (Value.int (bI (if lv = true then decide (s F < t F) else decide (t F < s F)))), _); rw [hb]⟩
            refine r_istore_3 rfl ?_
            cases lv
            · refine r_iload_2 rfl ?_
              refine r_ifeqT rfl rfl ?_
              refine r_iload_1 rfl ?_
              refine r_iload_3 rfl ?_
              refine r_icle rfl (fun c_107 => ?_) (fun c_107 => ?_)
              · refine r_push rfl ?_
                refine r_zret rfl (by first | decide | assumption) ?_
                first | exact fin true (by rw [if_neg (by decide)]; exact decide_eq_true c_107) | exact fin false (by rw [if_neg (by decide)]; exact decide_eq_false (Int32.not_lt.mpr c_107))
              · refine r_push rfl ?_
                refine r_goto rfl ?_
                refine r_zret rfl (by first | decide | assumption) ?_
                first | exact fin true (by rw [if_neg (by decide)]; exact decide_eq_true c_107) | exact fin false (by rw [if_neg (by decide)]; exact decide_eq_false (Int32.not_lt.mpr c_107))
            · refine r_iload_2 rfl ?_
              refine r_ifeqF rfl (by decide) ?_
              refine r_iload_1 rfl ?_
              refine r_iload_3 rfl ?_
              refine r_icge rfl (fun c_94 => ?_) (fun c_94 => ?_)
              · refine r_push rfl ?_
                refine r_goto rfl ?_
                refine r_zret rfl (by first | decide | assumption) ?_
                first | exact fin true (by rw [if_pos rfl]; exact decide_eq_true c_94) | exact fin false (by rw [if_pos rfl]; exact decide_eq_false (Int32.not_lt.mpr c_94))
              · refine r_push rfl ?_
                refine r_goto rfl ?_
                refine r_zret rfl (by first | decide | assumption) ?_
                first | exact fin true (by rw [if_pos rfl]; exact decide_eq_true c_94) | exact fin false (by rw [if_pos rfl]; exact decide_eq_false (Int32.not_lt.mpr c_94))
          · rw [q3]
            show Wp G 8 mt_X6_plain 87 _ _ (mh h y (gF g z (nI a9) dp)) (mQ Bz h y g e (.inl z) (bV F))
            refine r_istore_3 rfl ?_
            cases lv
            · refine r_iload_2 rfl ?_
              refine r_ifeqT rfl rfl ?_
              refine r_iload_1 rfl ?_
              refine r_iload_3 rfl ?_
              refine r_icle rfl (fun c_107 => ?_) (fun c_107 => ?_)
              · refine r_push rfl ?_
                refine r_zret rfl (by first | decide | assumption) ?_
                first | exact Or.inr ⟨_, _, _, _, rfl, q4, q9, Or.inl rfl, rfl⟩ | exact Or.inr ⟨_, _, _, _, rfl, q4, q9, Or.inr rfl, rfl⟩
              · refine r_push rfl ?_
                refine r_goto rfl ?_
                refine r_zret rfl (by first | decide | assumption) ?_
                first | exact Or.inr ⟨_, _, _, _, rfl, q4, q9, Or.inl rfl, rfl⟩ | exact Or.inr ⟨_, _, _, _, rfl, q4, q9, Or.inr rfl, rfl⟩
            · refine r_iload_2 rfl ?_
              refine r_ifeqF rfl (by decide) ?_
              refine r_iload_1 rfl ?_
              refine r_iload_3 rfl ?_
              refine r_icge rfl (fun c_94 => ?_) (fun c_94 => ?_)
              · refine r_push rfl ?_
                refine r_goto rfl ?_
                refine r_zret rfl (by first | decide | assumption) ?_
                first | exact Or.inr ⟨_, _, _, _, rfl, q4, q9, Or.inl rfl, rfl⟩ | exact Or.inr ⟨_, _, _, _, rfl, q4, q9, Or.inr rfl, rfl⟩
              · refine r_push rfl ?_
                refine r_goto rfl ?_
                refine r_zret rfl (by first | decide | assumption) ?_
                first | exact Or.inr ⟨_, _, _, _, rfl, q4, q9, Or.inl rfl, rfl⟩ | exact Or.inr ⟨_, _, _, _, rfl, q4, q9, Or.inr rfl, rfl⟩
        refine r_istore_1 rfl ?_
        refine r_aload_0 rfl ?_
        refine r_getf rfl am_set_at rfl ?_
        refine r_push rfl ?_
        refine r_iceqT rfl h12 ?_
        refine r_aload_0 rfl ?_
        refine r_push rfl ?_
        refine r_invvU rfl rfl am_set_at rfl rfl (by decide) (kSign S q2) ?_
        refine r_istore_2 rfl ?_
        refine r_iload_2 rfl ?_
        cases es : sgF T e a1 60 with
        | true =>
          refine r_ifneT rfl (by decide) ?_
          exact two true es (fun z => nomatch z)
        | false =>
          refine r_ifneF rfl rfl ?_
          refine r_aload_0 rfl ?_
          refine r_push rfl ?_
          refine r_invvU rfl rfl am_set_at rfl rfl (by decide) (kSign S hs1) ?_
          rw [sg_sk, sk_idem]
          cases es2 : sgF T e a1 62 with
          | true =>
            refine r_ifneT rfl (by decide) ?_
            exact two false es2 (fun _ => es)
          | false =>
            have ec : cmpF T e s a1 = .inl (skF T e a1) := by unfold cmpF; rw [if_neg (by rw [es]; decide), if_neg (by rw [es2]; decide)]
            rw [ec]
            refine r_ifneF rfl rfl ?_
            refine r_aload_0 rfl ?_
            refine r_aload_0 rfl ?_
            refine r_getf rfl am_set_at rfl ?_
            rw [upd_eq]
            refine r_invvV rfl rfl am_set_at rfl rfl (by decide) (kWrong h12) ?_
            refine r_push rfl ?_
            refine r_zret rfl (Or.inl rfl) ?_
            exact Or.inr ⟨_, _, _, _, rfl, hs1, hs1, Or.inl rfl, rfl⟩
      · rw [q1]
        show Wp G 8 mt_X6_plain 32 _ _ (mh h y (gF g z (nI a9) dp)) (mQ Bz h y g e (.inl z) (bV F))
        refine r_istore_1 rfl ?_
        refine r_aload_0 rfl ?_
        refine r_getf rfl am_set_at rfl ?_
        refine r_push rfl ?_
        refine r_iceqF rfl (by rw [gF_12]; exact nI_ne1 (by omega)) ?_
        refine r_push rfl ?_
        refine r_zret rfl (Or.inl rfl) ?_
        exact Or.inr ⟨_, _, _, _, rfl, q2, q9, Or.inl rfl, rfl⟩
/-- a parser of conditions: its contract -/
def mC (m : Nat) (T : Nat → Int32) (G : am_G) (h : am_H) (y e : Nat) (g : Nat → Int32) (F : Fc) (d k : Nat) (it : Nat → RD Cd) : Prop := ∀ a, a ≤ e → Wc G d k [.ref y] (mK h y g a) (mQm m Bz h y g e (it a) (bV F))
theorem kEveryL {m d dI : Nat} {it : Nat → RD Cd} (hd : dI < d) (hd6 : 6 ≤ d) (S : MS G bs h y g T e F) (h12 : g 12 = -1) (M : MON it) (IT : mC m T G h y e g F dI m_X6_atom it) : ∀ n a (c : Cd) (x2 : Value), e - a < n → a ≤ e → Wp G d mt_X6_every 5 [.ref y, .int (bI (c F)), x2] [] (mK h y g a) (mQm m Bz h y g e (sqL T e w_and and it n c a) (bV F))
  | 0, _, _, _, hn, _ => absurd hn (by omega)
  | n + 1, a, c, x2, hn, ha => by
    have he := S.e400
    have hs := sk_le T ha
    have hb := wb_le T ha
    have hsg := sk_ge T e a
    obtain ⟨v1, gv1, c1⟩ := kHas S ha 18 w_and (by decide)
    have fold : ∀ (b1 b2 : Bool) (h' : am_H) (Q : am_O → Prop), Wp G d mt_X6_every 5 [.ref y, .int (bI (and b1 b2)), .int (bI b2)] [] h' Q → Wp G d mt_X6_every 26 [.ref y, .int (bI b1), x2] [.int (bI b2)] h' Q := by
      intro b1 b2 h' Q k
      refine r_istore_2 rfl ?_
      refine r_iload_1 rfl ?_
      cases b1 <;> cases b2
      · refine r_ifeqT rfl rfl ?_
        refine r_push rfl ?_
        refine r_istore_1 rfl ?_
        refine r_goto rfl ?_
        exact k
      · refine r_ifeqT rfl rfl ?_
        refine r_push rfl ?_
        refine r_istore_1 rfl ?_
        refine r_goto rfl ?_
        exact k
      · refine r_ifeqF rfl (by decide) ?_
        refine r_iload_2 rfl ?_
        refine r_ifeqT rfl rfl ?_
        refine r_push rfl ?_
        refine r_istore_1 rfl ?_
        refine r_goto rfl ?_
        exact k
      · refine r_ifeqF rfl (by decide) ?_
        refine r_iload_2 rfl ?_
        refine r_ifeqF rfl (by decide) ?_
        refine r_push rfl ?_
        refine r_goto rfl ?_
        refine r_istore_1 rfl ?_
        refine r_goto rfl ?_
        exact k
    refine r_aload_0 rfl ?_
    refine r_getf rfl am_set_at rfl ?_
    refine r_push rfl ?_
    refine r_icneF rfl h12 ?_
    refine r_aload_0 rfl ?_
    refine r_globR rfl gv1 ?_
    refine r_invvU rfl rfl am_set_at rfl rfl (by omega) c1 ?_
    cases es : wdF T e a w_and with
    | false =>
      have e9 : sqL T e w_and and it (n + 1) c a = .inr (c, skF T e a) := by rw [sqL, if_neg (by rw [es]; decide)]
      rw [e9, if_neg (by decide)]
      refine r_ifeqT rfl rfl ?_
      refine r_iload_1 rfl ?_
      refine r_zret rfl (bI_z _) ?_
      exact Or.inl ⟨_, _, rfl, hs, rfl⟩
    | true =>
      have hl := wd_len es
      have hl2 : w_and.length = 3 := rfl
      have e9 : sqL T e w_and and it (n + 1) c a = rB (it (wbF T e a)) fun c' a => sqL T e w_and and it n (fun F => and (c F) (c' F)) a := by rw [sqL, if_pos es]
      rw [e9, if_pos rfl]
      refine r_ifeqF rfl (by decide) ?_
      refine r_aload_0 rfl ?_
      refine r_invvR rfl rfl am_set_at rfl rfl hd (IT _ hb) ?_
      rintro R (⟨t, a', q1, q2, rfl⟩ | ⟨z, a9, dp, v, q1, q2, q9, q3, rfl⟩)
      · rw [q1]
        have hp := M _ _ _ q1
        exact fold _ _ _ _ (kEveryL hd hd6 S h12 M IT n a' (fun F => and (c F) (t F)) _ (by omega) q2)
      · rw [q1]
        obtain ⟨b2, rfl⟩ := bz_b q3
        refine fold _ _ _ _ ?_
        refine r_aload_0 rfl ?_
        refine r_getf rfl am_set_at rfl ?_
        refine r_push rfl ?_
        refine r_icneT rfl (by rw [gF_12]; exact nI_ne1 (by omega)) ?_
        refine r_iload_1 rfl ?_
        refine r_zret rfl (bI_z _) ?_
        exact Or.inr ⟨_, _, _, _, rfl, q2, q9, bI_z _, rfl⟩
theorem kEvery {m d dI : Nat} {it : Nat → RD Cd} (hd : dI < d) (hd6 : 6 ≤ d) (S : MS G bs h y g T e F) (h12 : g 12 = -1) (M : MON it) (IT : mC m T G h y e g F dI m_X6_atom it) : mC m T G h y e g F d m_X6_every (fun a => rB (it a) fun c a => sqL T e w_and and it (e + 1) c a) := by
  intro a ha
  have he := S.e400
  show Wc G d m_X6_every [.ref y] (mK h y g a) (mQm m Bz h y g e (rB (it a) fun c a => sqL T e w_and and it (e + 1) c a) (bV F))
  refine wc_in mt_X6_every rfl (L := [.ref y, am_un, am_un]) rfl ?_
  refine r_aload_0 rfl ?_
  refine r_invvR rfl rfl am_set_at rfl rfl hd (IT _ ha) ?_
  rintro R (⟨t, a', q1, q2, rfl⟩ | ⟨z, a9, dp, v, q1, q2, q9, q3, rfl⟩)
  · rw [q1]
    show Wp G d mt_X6_every 4 _ _ (mK h y g a') (mQm m Bz h y g e (sqL T e w_and and it (e + 1) t a') (bV F))
    refine r_istore_1 rfl ?_
    exact kEveryL hd hd6 S h12 M IT (e + 1) a' t _ (by omega) q2
  · rw [q1]
    show Wp G d mt_X6_every 4 _ _ (mh h y (gF g z (nI a9) dp)) (mQm m Bz h y g e (.inl z) (bV F))
    refine r_istore_1 rfl ?_
    refine r_aload_0 rfl ?_
    refine r_getf rfl am_set_at rfl ?_
    refine r_push rfl ?_
    refine r_icneT rfl (by rw [gF_12]; exact nI_ne1 (by omega)) ?_
    refine r_iload_1 rfl ?_
    refine r_zret rfl q3 ?_
    exact Or.inr ⟨_, _, _, _, rfl, q2, q9, q3, rfl⟩
theorem kSomeL {m d dI : Nat} {it : Nat → RD Cd} (hd : dI < d) (hd6 : 6 ≤ d) (S : MS G bs h y g T e F) (h12 : g 12 = -1) (M : MON it) (IT : mC m T G h y e g F dI m_X6_every it) : ∀ n a (c : Cd) (x2 : Value), e - a < n → a ≤ e → Wp G d mt_X6_some 5 [.ref y, .int (bI (c F)), x2] [] (mK h y g a) (mQm m Bz h y g e (sqL T e w_or or it n c a) (bV F))
  | 0, _, _, _, hn, _ => absurd hn (by omega)
  | n + 1, a, c, x2, hn, ha => by
    have he := S.e400
    have hs := sk_le T ha
    have hb := wb_le T ha
    have hsg := sk_ge T e a
    obtain ⟨v1, gv1, c1⟩ := kHas S ha 17 w_or (by decide)
    have fold : ∀ (b1 b2 : Bool) (h' : am_H) (Q : am_O → Prop), Wp G d mt_X6_some 5 [.ref y, .int (bI (or b1 b2)), .int (bI b2)] [] h' Q → Wp G d mt_X6_some 26 [.ref y, .int (bI b1), x2] [.int (bI b2)] h' Q := by
      intro b1 b2 h' Q k
      refine r_istore_2 rfl ?_
      refine r_iload_1 rfl ?_
      cases b1 <;> cases b2
      · refine r_ifneF rfl rfl ?_
        refine r_iload_2 rfl ?_
        refine r_ifeqT rfl rfl ?_
        refine r_push rfl ?_
        refine r_istore_1 rfl ?_
        refine r_goto rfl ?_
        exact k
      · refine r_ifneF rfl rfl ?_
        refine r_iload_2 rfl ?_
        refine r_ifeqF rfl (by decide) ?_
        refine r_push rfl ?_
        refine r_goto rfl ?_
        refine r_istore_1 rfl ?_
        refine r_goto rfl ?_
        exact k
      · refine r_ifneT rfl (by decide) ?_
        refine r_push rfl ?_
        refine r_goto rfl ?_
        refine r_istore_1 rfl ?_
        refine r_goto rfl ?_
        exact k
      · refine r_ifneT rfl (by decide) ?_
        refine r_push rfl ?_
        refine r_goto rfl ?_
        refine r_istore_1 rfl ?_
        refine r_goto rfl ?_
        exact k
    refine r_aload_0 rfl ?_
    refine r_getf rfl am_set_at rfl ?_
    refine r_push rfl ?_
    refine r_icneF rfl h12 ?_
    refine r_aload_0 rfl ?_
    refine r_globR rfl gv1 ?_
    refine r_invvU rfl rfl am_set_at rfl rfl (by omega) c1 ?_
    cases es : wdF T e a w_or with
    | false =>
      have e9 : sqL T e w_or or it (n + 1) c a = .inr (c, skF T e a) := by rw [sqL, if_neg (by rw [es]; decide)]
      rw [e9, if_neg (by decide)]
      refine r_ifeqT rfl rfl ?_
      refine r_iload_1 rfl ?_
      refine r_zret rfl (bI_z _) ?_
      exact Or.inl ⟨_, _, rfl, hs, rfl⟩
    | true =>
      have hl := wd_len es
      have hl2 : w_or.length = 2 := rfl
      have e9 : sqL T e w_or or it (n + 1) c a = rB (it (wbF T e a)) fun c' a => sqL T e w_or or it n (fun F => or (c F) (c' F)) a := by rw [sqL, if_pos es]
      rw [e9, if_pos rfl]
      refine r_ifeqF rfl (by decide) ?_
      refine r_aload_0 rfl ?_
      refine r_invvR rfl rfl am_set_at rfl rfl hd (IT _ hb) ?_
      rintro R (⟨t, a', q1, q2, rfl⟩ | ⟨z, a9, dp, v, q1, q2, q9, q3, rfl⟩)
      · rw [q1]
        have hp := M _ _ _ q1
        exact fold _ _ _ _ (kSomeL hd hd6 S h12 M IT n a' (fun F => or (c F) (t F)) _ (by omega) q2)
      · rw [q1]
        obtain ⟨b2, rfl⟩ := bz_b q3
        refine fold _ _ _ _ ?_
        refine r_aload_0 rfl ?_
        refine r_getf rfl am_set_at rfl ?_
        refine r_push rfl ?_
        refine r_icneT rfl (by rw [gF_12]; exact nI_ne1 (by omega)) ?_
        refine r_iload_1 rfl ?_
        refine r_zret rfl (bI_z _) ?_
        exact Or.inr ⟨_, _, _, _, rfl, q2, q9, bI_z _, rfl⟩
theorem kSome {m d dI : Nat} {it : Nat → RD Cd} (hd : dI < d) (hd6 : 6 ≤ d) (S : MS G bs h y g T e F) (h12 : g 12 = -1) (M : MON it) (IT : mC m T G h y e g F dI m_X6_every it) : mC m T G h y e g F d m_X6_some (fun a => rB (it a) fun c a => sqL T e w_or or it (e + 1) c a) := by
  intro a ha
  have he := S.e400
  show Wc G d m_X6_some [.ref y] (mK h y g a) (mQm m Bz h y g e (rB (it a) fun c a => sqL T e w_or or it (e + 1) c a) (bV F))
  refine wc_in mt_X6_some rfl (L := [.ref y, am_un, am_un]) rfl ?_
  refine r_aload_0 rfl ?_
  refine r_invvR rfl rfl am_set_at rfl rfl hd (IT _ ha) ?_
  rintro R (⟨t, a', q1, q2, rfl⟩ | ⟨z, a9, dp, v, q1, q2, q9, q3, rfl⟩)
  · rw [q1]
    show Wp G d mt_X6_some 4 _ _ (mK h y g a') (mQm m Bz h y g e (sqL T e w_or or it (e + 1) t a') (bV F))
    refine r_istore_1 rfl ?_
    exact kSomeL hd hd6 S h12 M IT (e + 1) a' t _ (by omega) q2
  · rw [q1]
    show Wp G d mt_X6_some 4 _ _ (mh h y (gF g z (nI a9) dp)) (mQm m Bz h y g e (.inl z) (bV F))
    refine r_istore_1 rfl ?_
    refine r_aload_0 rfl ?_
    refine r_getf rfl am_set_at rfl ?_
    refine r_push rfl ?_
    refine r_icneT rfl (by rw [gF_12]; exact nI_ne1 (by omega)) ?_
    refine r_iload_1 rfl ?_
    refine r_zret rfl q3 ?_
    exact Or.inr ⟨_, _, _, _, rfl, q2, q9, q3, rfl⟩
end
