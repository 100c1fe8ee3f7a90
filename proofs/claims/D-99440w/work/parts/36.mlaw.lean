/-! THE MODEL reads: the law -/
set_option maxRecDepth 100000
/-- what a line adds -/
def lnV (k : Nat) (F : Fc) (l : Ln) : Int32 := if l.1 = k ∧ l.2.2 F = true then l.2.1 else 0
def sumG (g : Nat → Int32) (F : Fc) (ls : List Ln) : Nat → Int32 := upd (upd (upd g 17 (g 17 + lsumF 0 F ls)) 18 (g 18 + lsumF 1 F ls)) 19 (g 19 + lsumF 2 F ls)
theorem sumG_nil {g : Nat → Int32} {F : Fc} : sumG g F [] = g := by
  unfold sumG
  simp only [lsumF, Int32.add_zero]
  rw [upd_id (g := g) rfl, upd_id (g := g) rfl, upd_id (g := g) rfl]
theorem sumG_app {g : Nat → Int32} {F : Fc} {ls : List Ln} {l : Ln} : sumG (sumG g F ls) F [l] = sumG g F (ls ++ [l]) := by
  unfold sumG
  rw [lsum_app, lsum_app, lsum_app, ← Int32.add_assoc, ← Int32.add_assoc, ← Int32.add_assoc]
  funext j
  simp only [upd]
  split <;> (try rfl)
  split <;> (try rfl)
  split <;> (try rfl)
theorem sumG_one {g : Nat → Int32} {F : Fc} {l : Ln} : sumG g F [l] = upd (upd (upd g 17 (g 17 + lnV 0 F l)) 18 (g 18 + lnV 1 F l)) 19 (g 19 + lnV 2 F l) := by
  unfold sumG lnV
  simp only [lsumF, Int32.add_zero]
theorem sumG_off {g : Nat → Int32} {F : Fc} {l : Ln} (h : l.2.2 F = false) : sumG g F [l] = g := by
  have e : ∀ k, lnV k F l = 0 := fun k => if_neg (fun z => by rw [h] at z; exact absurd z.2 (by decide))
  rw [sumG_one, e, e, e]
  simp only [Int32.add_zero]
  rw [upd_id (g := g) rfl, upd_id (g := g) rfl, upd_id (g := g) rfl]
section
variable {T : Nat → Int32} {e y bs : Nat} {g g' : Nat → Int32} {h : am_H} {G : am_G} {F : Fc}
theorem kind_sk {a : Nat} : kindF T e (skF T e a) = kindF T e a := by unfold kindF; simp only [wd_sk]
theorem line_sk {a : Nat} : lineF T e (skF T e a) = lineF T e a := by
  unfold lineF
  rw [kind_sk]
  cases kindF T e a with
  | none => show (Sum.inl _ : RD Ln) = .inl _; rw [sk_idem]
  | some k => show rB (numF T e 0 99 (wbF T e (skF T e a))) _ = rB (numF T e 0 99 (wbF T e a)) _; rw [wb_sk]
theorem when_ge {a a' : Nat} {c : Cd} (q : whenF T e a = .inr (c, a')) : a ≤ a' := by
  have hs := sk_ge T e a
  have hb := wb_ge T e a
  unfold whenF at q
  split at q
  · have := mon_or (mon_atom 6) _ _ _ q; omega
  · cases q; omega
theorem line_ge {a a' : Nat} {l : Ln} (q : lineF T e a = .inr (l, a')) : a ≤ a' ∧ l.1 < 3 := by
  have hs := sk_ge T e a
  have hb := wb_ge T e a
  unfold lineF at q
  cases ek : kindF T e a with
  | none => rw [ek] at q; cases q
  | some k =>
    rw [ek] at q
    have hk := kind_len ek
    have q2 : rB (numF T e 0 99 (wbF T e a)) (fun n a => rB (whenF T e a) fun c a => (.inr ((k, n, c), a) : RD Ln)) = .inr (l, a') := q
    cases en : numF T e 0 99 (wbF T e a) with
    | inl z => rw [en] at q2; cases q2
    | inr z =>
      obtain ⟨n, a1⟩ := z
      rw [en] at q2
      have q3 : rB (whenF T e a1) (fun c a => (.inr ((k, n, c), a) : RD Ln)) = .inr (l, a') := q2
      have h1 := num_lt en
      cases ew : whenF T e a1 with
      | inl z => rw [ew] at q3; cases q3
      | inr z =>
        obtain ⟨c, a2⟩ := z
        rw [ew] at q3
        cases q3
        have h2 := when_ge ew
        exact ⟨by omega, hk.2⟩
/-- what a line of the law answers -/
def mL (h : am_H) (y e : Nat) (g : Nat → Int32) (F : Fc) (res : RD Ln) (R : am_O) : Prop := (∃ l a', res = .inr (l, a') ∧ a' ≤ e ∧ R = .inl (none, mK h y (sumG g F [l]) a')) ∨ (∃ z a9 dp, res = .inl z ∧ z ≤ e ∧ a9 ≤ e + 6 ∧ R = .inl (none, mh h y (gF g z (nI a9) dp)))
theorem kLawLine (S : MS G bs h y g T e F) {a : Nat} (ha : a ≤ e) (h12 : g 12 = -1) (h13 : g 13 = 0) : Wc G 30 m_X6_lawLine [.ref y] (mK h y g a) (mL h y e g F (lineF T e a)) := by
  have he := S.e400
  have hs := sk_le T ha
  have hb := wb_le T ha
  have no : kindF T e a = none → Wp G 30 mt_X6_lawLine 40 [.ref y, am_un, am_un, am_un] [.int (-1)] (mK h y g (skF T e a)) (mL h y e g F (lineF T e a)) := by
    intro ek
    have el : lineF T e a = .inl (skF T e a) := by unfold lineF; rw [ek]; rfl
    rw [el]
    refine r_istore_1 rfl ?_
    refine r_iload_1 rfl ?_
    refine r_push rfl ?_
    refine r_icneF rfl rfl ?_
    refine r_aload_0 rfl ?_
    refine r_aload_0 rfl ?_
    refine r_getf rfl am_set_at rfl ?_
    rw [upd_eq]
    refine r_invvV rfl rfl am_set_at rfl rfl (by decide) (kWrong h12) ?_
    refine r_vret rfl ?_
    exact Or.inr ⟨_, _, _, rfl, hs, by omega, rfl⟩
  have add : ∀ (k : Nat) (n : Int32) (c : Cd) (a2 : Nat) (x3 : Value), k < 3 → a2 ≤ e → Wp G 30 mt_X6_lawLine 93 [.ref y, .int (nI k), .int n, x3] [.int (bI (c F))] (mK h y g a2) (mL h y e g F (.inr ((k, n, c), a2))) := by
    intro k n c a2 x3 hk ha2
    refine r_istore_3 rfl ?_
    refine r_aload_0 rfl ?_
    refine r_getf rfl am_set_at rfl ?_
    refine r_push rfl ?_
    refine r_icneF rfl h12 ?_
    refine r_iload_3 rfl ?_
    cases hc : c F with
    | false =>
      refine r_ifneF rfl rfl ?_
      refine r_vret rfl ?_
      exact Or.inl ⟨_, _, rfl, ha2, by rw [sumG_off hc]⟩
    | true =>
      have ev : ∀ j, lnV j F (k, n, c) = if k = j then n else 0 := fun j => by
        unfold lnV
        by_cases z : k = j
        · rw [if_pos z, if_pos ⟨z, hc⟩]
        · rw [if_neg z, if_neg (fun y => z y.1)]
      refine r_ifneT rfl (by decide) ?_
      refine r_aload_0 rfl ?_
      refine r_dupR rfl ?_
      refine r_getf rfl am_set_at rfl ?_
      refine r_iload_1 rfl ?_
      have e0 : ∀ (Q : am_O → Prop) (st : List Value) (h' : am_H), Wp G 30 mt_X6_lawLine 121 [.ref y, .int (nI k), .int n, .int (bI true)] (.int (if k = 0 then n else 0) :: st) h' Q → Wp G 30 mt_X6_lawLine 113 [.ref y, .int (nI k), .int n, .int (bI true)] (.int (nI k) :: st) h' Q := by
        intro Q st h' kk
        by_cases z : k = 0
        · subst z
          refine r_ifneF rfl rfl ?_
          refine r_iload_2 rfl ?_
          refine r_goto rfl ?_
          exact kk
        · refine r_ifneT rfl (nI_ne0 (by omega) (by omega)) ?_
          refine r_push rfl ?_
          rw [if_neg z] at kk
          exact kk
      have e1 : ∀ (Q : am_O → Prop) (st : List Value) (h' : am_H), Wp G 30 mt_X6_lawLine 140 [.ref y, .int (nI k), .int n, .int (bI true)] (.int (if k = 1 then n else 0) :: st) h' Q → Wp G 30 mt_X6_lawLine 131 [.ref y, .int (nI k), .int n, .int (bI true)] (.int (nI k) :: st) h' Q := by
        intro Q st h' kk
        refine r_push rfl ?_
        by_cases z : k = 1
        · subst z
          refine r_icneF rfl rfl ?_
          refine r_iload_2 rfl ?_
          refine r_goto rfl ?_
          exact kk
        · refine r_icneT rfl (fun y => z ((nI_eq (a := k) (b := 1) (by omega) (by decide)).mp y)) ?_
          refine r_push rfl ?_
          rw [if_neg z] at kk
          exact kk
      have e2 : ∀ (Q : am_O → Prop) (st : List Value) (h' : am_H), Wp G 30 mt_X6_lawLine 159 [.ref y, .int (nI k), .int n, .int (bI true)] (.int (if k = 2 then n else 0) :: st) h' Q → Wp G 30 mt_X6_lawLine 150 [.ref y, .int (nI k), .int n, .int (bI true)] (.int (nI k) :: st) h' Q := by
        intro Q st h' kk
        refine r_push rfl ?_
        by_cases z : k = 2
        · subst z
          refine r_icneF rfl rfl ?_
          refine r_iload_2 rfl ?_
          refine r_goto rfl ?_
          exact kk
        · refine r_icneT rfl (fun y => z ((nI_eq (a := k) (b := 2) (by omega) (by decide)).mp y)) ?_
          refine r_push rfl ?_
          rw [if_neg z] at kk
          exact kk
      refine e0 _ _ _ ?_
      refine r_iadd rfl ?_
      refine r_puti rfl am_set_at rfl ?_
      rw [mo_17, am_set_set]
      refine r_aload_0 rfl ?_
      refine r_dupR rfl ?_
      refine r_getf rfl am_set_at rfl ?_
      refine r_iload_1 rfl ?_
      refine e1 _ _ _ ?_
      refine r_iadd rfl ?_
      refine r_puti rfl am_set_at rfl ?_
      rw [mo_18, am_set_set]
      refine r_aload_0 rfl ?_
      refine r_dupR rfl ?_
      refine r_getf rfl am_set_at rfl ?_
      refine r_iload_1 rfl ?_
      refine e2 _ _ _ ?_
      refine r_iadd rfl ?_
      refine r_puti rfl am_set_at rfl ?_
      rw [mo_19, am_set_set]
      refine r_vret rfl ?_
      refine Or.inl ⟨_, _, rfl, ha2, ?_⟩
      rw [sumG_one, ev, ev, ev]
      show Sum.inl (none, am_set h y (mcell y _)) = Sum.inl (none, am_set h y (mcell y _))
      congr 4
      funext j
      by_cases y19 : j = 19
      · subst y19; rfl
      · by_cases y18 : j = 18
        · subst y18; rfl
        · by_cases y17 : j = 17
          · subst y17; rfl
          · by_cases y11 : j = 11
            · subst y11; rfl
            · simp only [upd, if_neg y19, if_neg y18, if_neg y17, if_neg y11]
  have yes : ∀ k, k < 3 → kindF T e a = some k → Wp G 30 mt_X6_lawLine 40 [.ref y, am_un, am_un, am_un] [.int (nI k)] (mK h y g (wbF T e a)) (mL h y e g F (lineF T e a)) := by
    intro k hk ek
    have el : lineF T e a = rB (numF T e 0 99 (wbF T e a)) fun n a => rB (whenF T e a) fun c a => .inr ((k, n, c), a) := by unfold lineF; rw [ek]; rfl
    rw [el]
    refine r_istore_1 rfl ?_
    refine r_iload_1 rfl ?_
    refine r_push rfl ?_
    refine r_icneT rfl (nI_ne1 (by omega)) ?_
    refine r_aload_0 rfl ?_
    refine r_push rfl ?_
    refine r_push rfl ?_
    refine r_invvR rfl rfl am_set_at rfl rfl (by decide) (kFig S hb h12) ?_
    rintro R (⟨n, a1, q1, q2, rfl⟩ | ⟨z, a9, dp, v, q1, q2, q9, q3, rfl⟩)
    · rw [q1]
      show Wp G 30 mt_X6_lawLine 62 _ _ (mK h y g a1) (mL h y e g F (rB (whenF T e a1) fun c a => .inr ((k, n, c), a)))
      have hs1 := sk_le T q2
      have hb1 := wb_le T q2
      refine r_istore_2 rfl ?_
      refine r_aload_0 rfl ?_
      refine r_getf rfl am_set_at rfl ?_
      refine r_push rfl ?_
      refine r_iceqT rfl h12 ?_
      obtain ⟨v1, gv1, c1⟩ := kHas S q2 16 w_if (by decide)
      refine r_aload_0 rfl ?_
      refine r_globR rfl gv1 ?_
      refine r_invvU rfl rfl am_set_at rfl rfl (by decide) c1 ?_
      cases ei : wdF T e a1 w_if with
      | false =>
        have ew : whenF T e a1 = .inr (fun _ => true, skF T e a1) := by unfold whenF; rw [if_neg (by rw [ei]; decide)]
        rw [ew, if_neg (by decide)]
        refine r_ifeqT rfl rfl ?_
        refine r_push rfl ?_
        refine r_goto rfl ?_
        exact add k n (fun _ => true) _ _ hk hs1
      | true =>
        have ew : whenF T e a1 = orF T e (atomF T e 6) (wbF T e a1) := by unfold whenF; rw [if_pos ei]
        rw [ew, if_pos rfl]
        refine r_ifeqF rfl (by decide) ?_
        refine r_aload_0 rfl ?_
        refine r_invvR rfl rfl am_set_at rfl rfl (by decide) (kSomeTop S h12 h13 _ hb1) ?_
        rintro R (⟨c, a2, q3, q4, rfl⟩ | ⟨z, a9, dp, v, q3, q4, q9, q5, rfl⟩)
        · rw [q3]
          show Wp G 30 mt_X6_lawLine 85 _ (.int (bI (c F)) :: []) (mK h y g a2) (mL h y e g F (.inr ((k, n, c), a2)))
          have fin := add k n c a2 am_un hk q4
          cases hc : c F with
          | true =>
            rw [hc] at fin
            refine r_ifeqF rfl (by decide) ?_
            refine r_push rfl ?_
            refine r_goto rfl ?_
            exact fin
          | false =>
            rw [hc] at fin
            refine r_ifeqT rfl rfl ?_
            refine r_push rfl ?_
            exact fin
        · rw [q3]
          show Wp G 30 mt_X6_lawLine 85 _ (.int v :: []) (mh h y (gF g z (nI a9) dp)) (mL h y e g F (.inl z))
          have fin : ∀ b, Wp G 30 mt_X6_lawLine 93 [.ref y, .int (nI k), .int n, am_un] [.int b] (mh h y (gF g z (nI a9) dp)) (mL h y e g F (.inl z)) := by
            intro b
            refine r_istore_3 rfl ?_
            refine r_aload_0 rfl ?_
            refine r_getf rfl am_set_at rfl ?_
            refine r_push rfl ?_
            refine r_icneT rfl (by rw [gF_12]; exact nI_ne1 (by omega)) ?_
            refine r_vret rfl ?_
            exact Or.inr ⟨_, _, _, rfl, q4, by omega, rfl⟩
          refine r_ifeq rfl (fun c9 => ?_) (fun c9 => ?_)
          · refine r_push rfl ?_
            exact fin _
          · refine r_push rfl ?_
            refine r_goto rfl ?_
            exact fin _
    · rw [q1]
      show Wp G 30 mt_X6_lawLine 62 _ _ (mh h y (gF g z (nI a9) dp)) (mL h y e g F (.inl z))
      refine r_istore_2 rfl ?_
      refine r_aload_0 rfl ?_
      refine r_getf rfl am_set_at rfl ?_
      refine r_push rfl ?_
      refine r_iceqF rfl (by rw [gF_12]; exact nI_ne1 (by omega)) ?_
      refine r_vret rfl ?_
      exact Or.inr ⟨_, _, _, rfl, q2, by omega, rfl⟩
  obtain ⟨v0, gv0, c0⟩ := kHas S ha 23 w_tire (by decide)
  obtain ⟨v1, gv1, c1⟩ := kHas S hs 24 w_earn (by decide)
  obtain ⟨v2, gv2, c2⟩ := kHas S hs 25 w_hurt (by decide)
  rw [wd_sk, wb_sk, sk_idem] at c1 c2
  refine wc_in mt_X6_lawLine rfl (L := [.ref y, am_un, am_un, am_un]) rfl ?_
  refine r_aload_0 rfl ?_
  refine r_globR rfl gv0 ?_
  refine r_invvU rfl rfl am_set_at rfl rfl (by decide) c0 ?_
  cases e0 : wdF T e a w_tire with
  | true =>
    rw [if_pos rfl]
    refine r_ifeqF rfl (by decide) ?_
    refine r_push rfl ?_
    refine r_goto rfl ?_
    exact yes 0 (by decide) (by unfold kindF; rw [if_pos e0])
  | false =>
    rw [if_neg (by decide)]
    refine r_ifeqT rfl rfl ?_
    refine r_aload_0 rfl ?_
    refine r_globR rfl gv1 ?_
    refine r_invvU rfl rfl am_set_at rfl rfl (by decide) c1 ?_
    cases e1 : wdF T e a w_earn with
    | true =>
      rw [if_pos rfl]
      refine r_ifeqF rfl (by decide) ?_
      refine r_push rfl ?_
      refine r_goto rfl ?_
      exact yes 1 (by decide) (by unfold kindF; rw [if_neg (by rw [e0]; decide), if_pos e1])
    | false =>
      rw [if_neg (by decide)]
      refine r_ifeqT rfl rfl ?_
      refine r_aload_0 rfl ?_
      refine r_globR rfl gv2 ?_
      refine r_invvU rfl rfl am_set_at rfl rfl (by decide) c2 ?_
      cases e2 : wdF T e a w_hurt with
      | true =>
        rw [if_pos rfl]
        refine r_ifeqF rfl (by decide) ?_
        refine r_push rfl ?_
        refine r_goto rfl ?_
        exact yes 2 (by decide) (by unfold kindF; rw [if_neg (by rw [e0]; decide), if_neg (by rw [e1]; decide), if_pos e2])
      | false =>
        rw [if_neg (by decide)]
        refine r_ifeqT rfl rfl ?_
        refine r_push rfl ?_
        exact no (by unfold kindF; rw [if_neg (by rw [e0]; decide), if_neg (by rw [e1]; decide), if_neg (by rw [e2]; decide)])
end
