/-! THE MODEL reads: numbers -/
set_option maxRecDepth 100000
/-- the model's numbers behind a fault -/
def gF (g : Nat → Int32) (z : Nat) (at_ dp : Int32) : Nat → Int32 := upd (upd (upd g 13 dp) 11 at_) 12 (nI z)
/-- what a reading method of the model answers: a value, or a fault (it stands at m at most) -/
def mQm {α : Type} (m : Nat) (B : Int32 → Prop) (h : am_H) (y : Nat) (g : Nat → Int32) (e : Nat) (res : RD α) (V : α → Int32) (R : am_O) : Prop :=
  (∃ c a', res = .inr (c, a') ∧ a' ≤ e ∧ R = .inl (some (.int (V c)), mh h y (upd g 11 (nI a')))) ∨ (∃ z a9 dp v, res = .inl z ∧ z ≤ e ∧ a9 ≤ m ∧ B v ∧ R = .inl (some (.int v), mh h y (gF g z (nI a9) dp)))
abbrev mQ {α : Type} (B : Int32 → Prop) (h : am_H) (y : Nat) (g : Nat → Int32) (e : Nat) (res : RD α) (V : α → Int32) (R : am_O) : Prop := mQm e B h y g e res V R
def Bz : Int32 → Prop := fun v => v = 0 ∨ v = 1
def Bi : Int32 → Prop := fun _ => True
section
variable {T : Nat → Int32} {e y : Nat} {g g' : Nat → Int32} {h : am_H} {G : am_G}
theorem gF_12 {z : Nat} {a b : Int32} : gF g z a b 12 = nI z := upd_eq
theorem gF_13 {z : Nat} {a b : Int32} : gF (upd g 11 a) z a (g 13) = upd (upd g 11 a) 12 (nI z) := by
  unfold gF
  rw [upd_id (g := upd g 11 a) (k := 13) (v := g 13) rfl, upd_upd]
theorem nI_ne1 {z : Nat} (h : z ≤ 400) : nI z ≠ -1 := fun q => by
  have := nI_pos' (n := z) (by omega)
  rw [q] at this
  exact absurd this (by decide)
theorem gF_gF {z z' : Nat} {a b a' b' : Int32} : gF (gF g z a b) z' a' b' = gF g z' a' b' := by
  unfold gF
  funext j
  simp only [upd]
  split <;> (try rfl)
  split <;> (try rfl)
  split <;> (try rfl)
theorem gF_11 {z : Nat} {a b c : Int32} : gF (upd g 11 c) z a b = gF g z a b := by
  unfold gF
  funext j
  simp only [upd]
  split <;> (try rfl)
  split <;> (try rfl)
theorem gF_up {z : Nat} {a : Int32} : upd (upd g 11 a) 12 (nI z) = gF g z a (g 13) := by
  unfold gF
  rw [upd_id (g := g) (k := 13) (v := g 13) rfl]
theorem num_bk {lo hi : Int32} {a : Nat} : numF T e lo hi a = if (fgF T e (skF T e a) = skF T e a ∨ 3 < fgF T e (skF T e a) - skF T e a) ∨ inF (nuF T (skF T e a) (fgF T e (skF T e a) - skF T e a)) lo hi = false then .inl (skF T e a) else .inr (nuF T (skF T e a) (fgF T e (skF T e a) - skF T e a), fgF T e (skF T e a)) := rfl
theorem c_mFigures (q : MP h y g T e) {a : Nat} (hg : g 11 = nI a) (ha : a ≤ e) (h12 : g 12 = -1) {lo hi : Int32} : Wc G 4 m_X6_figures [.ref y, .int lo, .int hi] h (mQ Bi h y g e (numF T e lo hi a) id) := by
  have he := q.2.2.2
  have hs := sk_le T ha
  have fin : ∀ (a1 : Nat) (n : Int32), skF T e a ≤ a1 → a1 ≤ e → n = nuF T (skF T e a) (a1 - skF T e a) → ((a1 = fgF T e (skF T e a) ∧ a1 - skF T e a ≤ 3) ∨ (a1 - skF T e a = 4 ∧ 3 < fgF T e (skF T e a) - skF T e a)) → Wp G 4 mt_X6_figures 89 [.ref y, .int lo, .int hi, .int (nI (skF T e a)), .int n] [] (mh h y (upd g 11 (nI a1))) (mQ Bi h y g e (numF T e lo hi a) id) := by
    intro a1 n hb ha1 hn hc
    have d1 := nI_eq (a := a1) (b := skF T e a) (by omega) (by omega)
    have d3 : (3 : Int32) < nI a1 - nI (skF T e a) ↔ 3 < a1 - skF T e a := by rw [nI_sub hb]; exact nI_ltI (a := 3) (by decide) (by omega)
    have thr : numF T e lo hi a = .inl (skF T e a) → Wp G 4 mt_X6_figures 119 [.ref y, .int lo, .int hi, .int (nI (skF T e a)), .int n] [] (mh h y (upd g 11 (nI a1))) (mQ Bi h y g e (numF T e lo hi a) id) := by
      intro ez
      refine r_aload_0 rfl ?_
      refine r_iload_3 rfl ?_
      refine r_invvV rfl rfl am_set_at rfl rfl (e := 0) (by decide) (c_mWrong (g := upd g 11 (nI a1)) am_set_at h12 _) ?_
      refine r_iload_4 rfl ?_
      refine r_iret rfl ?_
      refine Or.inr ⟨_, a1, g 13, n, ez, hs, ha1, trivial, ?_⟩
      rw [mh_mh, gF_up]
    refine r_aload_0 rfl ?_
    refine r_getf rfl am_set_at rfl ?_
    rw [upd_eq]
    refine r_iload_3 rfl ?_
    refine r_iceq rfl (fun c => ?_) (fun c => ?_)
    · refine thr ?_
      have e1 := d1.mp c
      rw [num_bk]
      refine if_pos (Or.inl (Or.inl ?_))
      rcases hc with z | z <;> omega
    · refine r_aload_0 rfl ?_
      refine r_getf rfl am_set_at rfl ?_
      rw [upd_eq]
      refine r_iload_3 rfl ?_
      refine r_isub rfl ?_
      refine r_push rfl ?_
      refine r_icgt rfl (fun c1 => ?_) (fun c1 => ?_)
      · refine thr ?_
        have e1 := d3.mp c1
        rw [num_bk]
        refine if_pos (Or.inl (Or.inr ?_))
        rcases hc with z | z <;> omega
      · have e3 : a1 - skF T e a ≤ 3 := Nat.not_lt.mp (fun z => Int32.not_lt.mpr c1 (d3.mpr z))
        have ek : a1 = fgF T e (skF T e a) := by rcases hc with z | z <;> omega
        rw [ek] at hn
        refine r_iload_4 rfl ?_
        refine r_iload_1 rfl ?_
        refine r_iclt rfl (fun c2 => ?_) (fun c2 => ?_)
        · refine thr ?_
          rw [num_bk, ← hn]
          exact if_pos (Or.inr (inF_l c2))
        · refine r_iload_4 rfl ?_
          refine r_iload_2 rfl ?_
          refine r_icle rfl (fun c4 => ?_) (fun c4 => ?_)
          · refine r_iload_4 rfl ?_
            refine r_iret rfl ?_
            refine Or.inl ⟨n, a1, ?_, ha1, rfl⟩
            rw [num_bk, ← hn, if_neg, ek]
            rintro ((z | z) | z)
            · exact c (d1.mpr (ek.trans z))
            · omega
            · rw [inF_t c2 c4] at z; cases z
          · refine thr ?_
            rw [num_bk, ← hn]
            exact if_pos (Or.inr (inF_h c4))
  have loop : ∀ m (a1 : Nat) (n : Int32), e - a1 ≤ m → skF T e a ≤ a1 → a1 ≤ e → a1 - skF T e a ≤ 4 → n = nuF T (skF T e a) (a1 - skF T e a) → fgF T e a1 = fgF T e (skF T e a) → Wp G 4 mt_X6_figures 18 [.ref y, .int lo, .int hi, .int (nI (skF T e a)), .int n] [] (mh h y (upd g 11 (nI a1))) (mQ Bi h y g e (numF T e lo hi a) id) := by
    intro m
    induction m with
    | zero =>
      intro a1 n hm hb ha1 h4 hn hk
      have q1 : MP (mh h y (upd g 11 (nI a1))) y (upd g 11 (nI a1)) T e := q.set rfl rfl
      have ge : (upd g 11 (nI a1)) 10 = nI e := q1.2.2.1
      have hke : fgF T e a1 = a1 := scan_stop (fun z => absurd z (by omega))
      refine r_aload_0 rfl ?_
      refine r_getf rfl am_set_at rfl ?_
      refine r_aload_0 rfl ?_
      refine r_getf rfl am_set_at rfl ?_
      rw [upd_eq, ge]
      refine r_icgeT rfl (nI_le (by omega) (by omega)) ?_
      refine fin a1 n hb ha1 hn ?_
      rw [← hk, hke]
      by_cases z : a1 - skF T e a ≤ 3
      · exact Or.inl ⟨rfl, z⟩
      · exact Or.inr ⟨by omega, by omega⟩
    | succ m ih =>
      intro a1 n hm hb ha1 h4 hn hk
      have q1 : MP (mh h y (upd g 11 (nI a1))) y (upd g 11 (nI a1)) T e := q.set rfl rfl
      have ge : (upd g 11 (nI a1)) 10 = nI e := q1.2.2.1
      have d3 : nI a1 - nI (skF T e a) ≤ (3 : Int32) ↔ a1 - skF T e a ≤ 3 := by rw [nI_sub hb]; exact nI_leI (b := 3) (by omega) (by decide)
      have stop : (a1 < e → isFg (T a1) = false) → (a1 = fgF T e (skF T e a) ∧ a1 - skF T e a ≤ 3) ∨ (a1 - skF T e a = 4 ∧ 3 < fgF T e (skF T e a) - skF T e a) := fun z => by
        have hke : fgF T e a1 = a1 := scan_stop z
        rw [← hk, hke]
        by_cases z : a1 - skF T e a ≤ 3
        · exact Or.inl ⟨rfl, z⟩
        · exact Or.inr ⟨by omega, by omega⟩
      refine r_aload_0 rfl ?_
      refine r_getf rfl am_set_at rfl ?_
      refine r_aload_0 rfl ?_
      refine r_getf rfl am_set_at rfl ?_
      rw [upd_eq, ge]
      by_cases z : a1 < e
      · refine r_icgeF rfl (nI_lt z (by omega)) ?_
        refine r_aload_0 rfl ?_
        refine r_aload_0 rfl ?_
        refine r_getf rfl am_set_at rfl ?_
        rw [upd_eq]
        refine r_invvP_1 rfl am_set_at rfl rfl (by decide) (c_mLetter q1 (by omega)) ?_
        refine r_push rfl ?_
        refine r_push rfl ?_
        refine r_invP_3 rfl rfl (by decide) (c_isIn _ _ _) ?_
        cases ef : inF (T a1) 48 57 with
        | false =>
          refine r_ifeqT rfl rfl ?_
          exact fin a1 n hb ha1 hn (stop (fun _ => ef))
        | true =>
          refine r_ifeqF rfl (by decide) ?_
          refine r_aload_0 rfl ?_
          refine r_getf rfl am_set_at rfl ?_
          rw [upd_eq]
          refine r_iload_3 rfl ?_
          refine r_isub rfl ?_
          refine r_push rfl ?_
          have ek : fgF T e a1 = fgF T e (a1 + 1) := scan_step z ef
          have hge : a1 + 1 ≤ fgF T e (a1 + 1) := scan_ge _
          by_cases z3 : a1 - skF T e a ≤ 3
          · refine r_icgtF rfl (d3.mpr z3) ?_
            refine r_push rfl ?_
            refine r_iload_4 rfl ?_
            refine r_imul rfl ?_
            refine r_aload_0 rfl ?_
            refine r_aload_0 rfl ?_
            refine r_getf rfl am_set_at rfl ?_
            rw [upd_eq]
            refine r_invvP_1 rfl am_set_at rfl rfl (by decide) (c_mLetter q1 (by omega)) ?_
            refine r_iadd rfl ?_
            refine r_push rfl ?_
            refine r_isub rfl ?_
            refine r_istore_4 rfl ?_
            refine r_aload_0 rfl ?_
            refine r_dupR rfl ?_
            refine r_getf rfl am_set_at rfl ?_
            rw [upd_eq]
            refine r_push rfl ?_
            refine r_iadd rfl ?_
            rw [nI_1]
            refine r_puti rfl am_set_at rfl ?_
            rw [mo_11, upd_upd, am_set_set]
            refine r_goto rfl ?_
            refine ih (a1 + 1) _ (by omega) (by omega) (by omega) (by omega) ?_ (by rw [← ek]; exact hk)
            rw [show a1 + 1 - skF T e a = (a1 - skF T e a) + 1 by omega, nuF, hn, show skF T e a + (a1 - skF T e a) = a1 by omega]
          · refine r_icgtT rfl (Int32.not_le.mp (fun y9 => z3 (d3.mp y9))) ?_
            refine fin a1 n hb ha1 hn (Or.inr ⟨by omega, ?_⟩)
            rw [← hk, ek]
            omega
      · refine r_icgeT rfl (nI_le (by omega) (by omega)) ?_
        exact fin a1 n hb ha1 hn (stop (fun y9 => absurd y9 z))
  refine wc_in mt_X6_figures rfl (L := [.ref y, .int lo, .int hi, am_un, am_un]) rfl ?_
  refine r_aload_0 rfl ?_
  refine r_getf rfl q.1 rfl ?_
  refine r_push rfl ?_
  refine r_iceqT rfl h12 ?_
  refine r_aload_0 rfl ?_
  refine r_invvU rfl rfl q.1 rfl rfl (by decide) (c_mHere q hg ha) ?_
  refine r_istore_3 rfl ?_
  refine r_push rfl ?_
  refine r_istore_4 rfl ?_
  exact loop (e - skF T e a) _ _ (Nat.le_refl _) (Nat.le_refl _) hs (by omega) (by rw [Nat.sub_self]; rfl) rfl
/-- .. behind a fault: nothing -/
theorem c_mFiguresX (o : h.1 y = some (mcell y g)) (h12 : g 12 ≠ -1) {lo hi : Int32} : Vc G 4 m_X6_figures [.ref y, .int lo, .int hi] h (.int 0) := by
  refine wc_in mt_X6_figures rfl (L := [.ref y, .int lo, .int hi, am_un, am_un]) rfl ?_
  refine r_aload_0 rfl ?_
  refine r_getf rfl o rfl ?_
  refine r_push rfl ?_
  refine r_iceqF rfl h12 ?_
  refine r_push rfl ?_
  exact r_iret rfl rfl
end
