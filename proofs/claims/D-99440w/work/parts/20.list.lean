/-! ARRAYLIST -/
set_option maxRecDepth 100000
/-- two growths, the second over cells that are new since the first -/
theorem HF.transN {P P' : Nat → Prop} {c s c' s' : Nat} {h h' h'' : am_H} (w0 : HW h) (f : HF P c s h h') (g : HF P' c' s' h' h'') (hp : ∀ a, P' a → P a ∨ h.2.1 ≤ a) : HF P (c + c') (s + s') h h'' := by
  obtain ⟨f1, f2, ⟨f3, f4⟩, f5, f6⟩ := f
  obtain ⟨g1, g2, ⟨g3, g4⟩, g5, g6⟩ := g
  exact ⟨g1, fun a e p q => g2 a e (fun z => (hp a z).elim p (fun y => absurd (w0 a e q) (by omega))) (f2 a e p q), ⟨by omega, by omega⟩, by omega, by omega⟩
/-- the list at a, its array at arr -/
def AL (G : am_G) (bs : Nat) (h : am_H) (a arr : Nat) (xs : List Nat) : Prop := ∃ (mc : Int32) (t cap : Nat) (f : Nat → Option Nat), h.1 a = some (.inr (4, [.int mc, .ref arr, .int (nI xs.length)])) ∧ h.1 arr = some (.inl (t, cap, oar f)) ∧ ((t = 4 ∧ 10 ≤ cap ∧ bs ≤ arr) ∨ (t = 104 ∧ cap = 0 ∧ G 33 = .ref arr ∧ arr < bs)) ∧ (xs.length ≤ cap ∧ cap ≤ 600) ∧ (∀ i, i < xs.length → f i = xs[i]?)
/-- what a list's writes touch -/
def ALP (bs a arr : Nat) : Nat → Prop := fun x => x = a ∨ (x = arr ∧ bs ≤ arr)
theorem AL.keep {G : am_G} {bs a arr c s : Nat} {h h' : am_H} {xs : List Nat} {P : Nat → Prop} (q : AL G bs h a arr xs) (g : HF P c s h h') (h1 : ¬ P a) (h2 : ¬ P arr) : AL G bs h' a arr xs := by
  obtain ⟨mc, t, cap, f, q1, q2, q3⟩ := q
  exact ⟨mc, t, cap, f, g.k q1 h1, g.k q2 h2, q3⟩
section
variable {h h0 : am_H} {G : am_G} {bs a arr : Nat} {xs : List Nat}
theorem c_alInit (w : HW h) (og : OG G bs h) {mc : Int32} {v : Value} (o : h.1 a = some (.inr (4, [.int mc, v, .int 0]))) : En G 2 m_J2_init [.ref a] h (fun h' => (∃ arr, arr < bs ∧ AL G bs h' a arr []) ∧ HF (fun x => x = a) 0 0 h h') := by
  obtain ⟨-, -, ⟨a3, g3, q1, q2, q3⟩, -⟩ := og
  have hne : a3 ≠ a := fun z => by rw [z, o] at q3; cases q3
  have c0 : Vn G 0 m_J0_init [.ref a] h := by
    refine wc_in mt_J0_init rfl (L := [.ref a]) rfl ?_
    refine r_aload_0 rfl ?_
    refine r_oinit rfl rfl ?_
    refine r_vret rfl ?_
    rfl
  have c1 : En G 1 m_J1_init [.ref a] h (fun h' => h' = am_set h a (.inr (4, [.int 0, v, .int 0]))) := by
    refine wc_in mt_J1_init rfl (L := [.ref a]) rfl ?_
    refine r_aload_0 rfl ?_
    refine r_k (nx := 4) (L' := [.ref a]) (rest := []) rfl (am_invi_ok (n := 0) (As := []) rfl rfl) (by decide) c0 (fun R q => ?_)
    subst q
    refine r_aload_0 rfl ?_
    refine r_push rfl ?_
    refine r_puti rfl (by assumption) rfl ?_
    refine r_vret rfl ?_
    exact ⟨_, rfl, rfl⟩
  refine wc_in mt_J2_init rfl (L := [.ref a]) rfl ?_
  refine r_aload_0 rfl ?_
  refine r_inviF rfl rfl rfl (by decide) (c1) ?_
  rintro h1 rfl
  refine r_aload_0 rfl ?_
  refine r_globR rfl (q1) ?_
  refine r_puta rfl (am_set_at) rfl ?_
  refine r_vret rfl ?_
  simp only [am_set_set]
  refine ⟨_, rfl, ⟨a3, q2, 0, 104, 0, g3, am_set_at, am_set_k q3 hne, Or.inr ⟨rfl, rfl, q1, q2⟩, ⟨Nat.le_refl _, by decide⟩, fun i hi => absurd hi (by simp)⟩, HF.set w o⟩
theorem c_alSize (q : AL G bs h a arr xs) : Vc G 0 m_J2_size [.ref a] h (.int (nI xs.length)) := by
  obtain ⟨mc, t, cap, f, o, -⟩ := q
  refine wc_in mt_J2_size rfl (L := [.ref a]) rfl ?_
  refine r_aload_0 rfl ?_
  refine r_getf rfl (by assumption) (by rfl) ?_
  refine r_iret rfl ?_
  rfl
theorem c_ckIx {i n : Nat} (hi : i < n) (hn : n < 2 ^ 31) : Vc G 1 m_J22_checkIndex [.int (nI i), .int (nI n)] h (.int (nI i)) := by
  have ci : Vc G 0 m_J11_checkIndex [.int (nI i), .int (nI n), .null] h (.int (nI i)) := by
    refine wc_in mt_J11_checkIndex rfl (L := [.int (nI i), .int (nI n), .null]) rfl ?_
    refine r_iload_0 rfl ?_
    refine r_ifltF rfl (nI_pos' (by omega)) ?_
    refine r_iload_0 rfl ?_
    refine r_iload_1 rfl ?_
    refine r_icltT rfl (nI_lt hi hn) ?_
    refine r_iload_0 rfl ?_
    refine r_iret rfl ?_
    rfl
  refine wc_in mt_J22_checkIndex rfl (L := [.int (nI i), .int (nI n)]) rfl ?_
  refine r_iload_0 rfl ?_
  refine r_iload_1 rfl ?_
  refine r_push rfl ?_
  refine r_invP_3 rfl rfl (by decide) (ci) ?_
  refine r_iret rfl ?_
  rfl
theorem c_alGet (q : AL G bs h a arr xs) {i : Nat} (hi : i < xs.length) : Vc G 2 m_J2_get [.ref a, .int (nI i)] h (.ref (xs[i])) := by
  obtain ⟨mc, t, cap, f, o, o1, ht, ⟨hl, hc⟩, hf⟩ := q
  have e1 : t = 4 := ht.elim (fun z => z.1) (fun z => absurd z.2.1 (by omega))
  subst e1
  have ev : va_rf (f i) = .ref (xs[i]) := by rw [hf i hi, List.getElem?_eq_getElem hi]; rfl
  have c1 : Vc G 0 m_J2_elementData [.ref a, .int (nI i)] h (.ref (xs[i])) := by
    refine wc_in mt_J2_elementData rfl (L := [.ref a, .int (nI i)]) rfl ?_
    refine r_aload_0 rfl ?_
    refine r_getf rfl o rfl ?_
    refine r_iload_1 rfl ?_
    refine r_aald rfl o1 rfl rfl (by omega) (by omega) ?_
    rw [ev]
    exact r_aret rfl rfl
  refine wc_in mt_J2_get rfl (L := [.ref a, .int (nI i)]) rfl ?_
  refine r_iload_1 rfl ?_
  refine r_aload_0 rfl ?_
  refine r_getf rfl (by assumption) (by rfl) ?_
  refine r_invP_2 rfl rfl (by decide) (c_ckIx hi (by omega)) ?_
  refine r_pop rfl ?_
  refine r_aload_0 rfl ?_
  refine r_iload_1 rfl ?_
  refine r_invvP_1 rfl (by assumption) rfl rfl (by decide) (c1) ?_
  refine r_aret rfl ?_
  rfl
theorem sr1_a : ∀ x, x < 1024 → nI x >>> ((1 : Int32) &&& 31) = nI (x / 2) := by decide +kernel
theorem c_newLenG {x y z : Nat} (hx : x ≤ 1000) (hy : 1 ≤ y ∧ y ≤ 1000) (hz : z ≤ 1000) : Vc G 1 m_J7_newLength [.int (nI x), .int (nI y), .int (nI z)] h (.int (nI (x + max y z))) := by
  have e1 : maxF (nI y) (nI z) = nI (max y z) := by
    by_cases q : z ≤ y
    · rw [maxF_g (nI_le q (by omega)), Nat.max_eq_left q]
    · rw [maxF_l (nI_le (by omega) (by omega)), Nat.max_eq_right (by omega)]
  have hm : 1 ≤ max y z ∧ max y z ≤ 1000 := by omega
  refine wc_in mt_J7_newLength rfl (L := [.int (nI x), .int (nI y), .int (nI z), am_un]) rfl ?_
  refine r_iload_0 rfl ?_
  refine r_iload_1 rfl ?_
  refine r_iload_2 rfl ?_
  refine r_invP_2 rfl rfl (by decide) (c_max _ _) ?_
  refine r_iadd rfl ?_
  refine r_istore_3 rfl ?_
  refine r_push rfl ?_
  refine r_iload_3 rfl ?_
  refine r_icgeF rfl (by rw [e1, nI_add]; exact nI_lt (a := 0) (by omega) (by omega)) ?_
  refine r_iload_3 rfl ?_
  refine r_push rfl ?_
  refine r_icgtF rfl (by rw [e1, nI_add]; exact (show nI (x + max y z) ≤ nI 2147483639 from nI_le (by omega) (by decide))) ?_
  refine r_iload_3 rfl ?_
  refine r_iret rfl ?_
  rw [e1, nI_add]
/-- Arrays.copyOf of objects to a longer array -/
theorem c_copyO (w : HW h) (og : ∃ b, G 37 = .ref b) {N M : Nat} {f : Nat → Option Nat} (o : h.1 arr = some (.inl (4, N, oar f))) (hN : N < M) (hM : M ≤ 1000) : Ev G 2 m_J9_copyOf_2 [.ref arr, .int (nI M)] h (fun v h' => v = .ref h.2.1 ∧ h' = am_new h (.inl (4, M, oar (va_cpy f (fun _ => none) 0 0 N))) M) := by
  obtain ⟨b, hb⟩ := og
  have e1 : minF (nI N) (nI M) = nI N := minF_l (nI_le (by omega) (by omega))
  have hne : arr ≠ h.2.1 := Nat.ne_of_lt (w _ _ o)
  have c3 : Ev G 1 m_J9_copyOf_3 [.ref arr, .int (nI M), .ref b] h (fun v h' => v = .ref h.2.1 ∧ h' = am_new h (.inl (4, M, oar (va_cpy f (fun _ => none) 0 0 N))) M) := by
    refine wc_in mt_J9_copyOf_3 rfl (L := [.ref arr, .int (nI M), .ref b, am_un]) rfl ?_
    refine r_aload_2 rfl ?_
    refine r_globR rfl hb ?_
    refine r_acneF rfl (am_same_y _) ?_
    refine r_iload_1 rfl ?_
    refine r_newr rfl rfl (by omega) ?_
    refine r_goto rfl ?_
    refine r_astore_3 rfl ?_
    refine r_aload_0 rfl ?_
    refine r_push rfl ?_
    refine r_aload_3 rfl ?_
    refine r_push rfl ?_
    refine r_aload_0 rfl ?_
    refine r_alen rfl ((am_new_ne hne).trans o) ?_
    refine r_iload_1 rfl ?_
    refine r_invP_2 rfl rfl (by decide) (c_min _ _) ?_
    rw [e1]
    refine r_copyq rfl ((am_new_ne hne).trans o) am_new_at (show (0 : Int32) = nI 0 from rfl) (show (0 : Int32) = nI 0 from rfl) rfl (by omega) (by omega) (by omega) (by omega) rfl ?_
    refine r_aload_3 rfl ?_
    refine r_aret rfl ?_
    exact ⟨_, _, rfl, rfl, am_set_new h rfl⟩
  refine wc_in mt_J9_copyOf_2 rfl (L := [.ref arr, .int (nI M)]) rfl ?_
  refine r_aload_0 rfl ?_
  refine r_iload_1 rfl ?_
  refine r_aload_0 rfl ?_
  refine r_getc rfl o rfl ?_
  rw [hb]
  refine r_invE rfl rfl rfl (by decide) c3 ?_
  rintro v h' ⟨rfl, q1⟩
  exact r_aret rfl ⟨_, _, rfl, rfl, q1⟩
/-- an array for one more -/
theorem c_grow (w : HW h) (og : OG G bs h) (hbs : bs ≤ h.2.1) {mc : Int32} {t cap n : Nat} {f : Nat → Option Nat} (o : h.1 a = some (.inr (4, [.int mc, .ref arr, .int (nI n)]))) (o1 : h.1 arr = some (.inl (t, cap, oar f))) (ht : (t = 4 ∧ 10 ≤ cap ∧ bs ≤ arr) ∨ (t = 104 ∧ cap = 0 ∧ G 33 = .ref arr ∧ arr < bs)) (hn : n = cap) (hc : cap ≤ 390) : Ev G 4 m_J2_grow [.ref a] h (fun v h' => ∃ cap' f', v = .ref h.2.1 ∧ cap + 1 ≤ cap' ∧ 10 ≤ cap' ∧ cap' ≤ 600 ∧ h'.1 a = some (.inr (4, [.int mc, .ref h.2.1, .int (nI n)])) ∧ h'.1 h.2.1 = some (.inl (4, cap', oar f')) ∧ (∀ i, i < n → f' i = f i) ∧ HF (fun x => x = a) 1 600 h h') := by
  subst hn
  have og0 := og
  obtain ⟨-, -, ⟨a3, g3, q1, q2, q3⟩, hm, -⟩ := og
  have hza : a ≠ h.2.1 := Nat.ne_of_lt (w _ _ o)
  have key : Ev G 3 m_J2_grow_2 [.ref a, .int (nI n + 1)] h (fun v h' => ∃ cap' f', v = .ref h.2.1 ∧ n + 1 ≤ cap' ∧ 10 ≤ cap' ∧ cap' ≤ 600 ∧ h'.1 a = some (.inr (4, [.int mc, .ref h.2.1, .int (nI n)])) ∧ h'.1 h.2.1 = some (.inl (4, cap', oar f')) ∧ (∀ i, i < n → f' i = f i) ∧ HF (fun x => x = a) 1 600 h h') := by
    refine wc_in mt_J2_grow_2 rfl (L := [.ref a, .int (nI n + 1), am_un, am_un]) rfl ?_
    refine r_aload_0 rfl ?_
    refine r_getf rfl o rfl ?_
    refine r_alen rfl o1 ?_
    refine r_istore_2 rfl ?_
    refine r_iload_2 rfl ?_
    rcases ht with ⟨rfl, hc10, hb⟩ | ⟨rfl, rfl, hg, hb⟩
    · have e1 : nI n + 1 - nI n = nI 1 := by rw [nI_1, nI_sub (by omega)]; congr 1; omega
      have hd2 : n / 2 ≤ 200 ∧ 5 ≤ n / 2 := by omega
      refine r_ifgtT rfl (nI_lt (a := 0) (by omega) (by omega)) ?_
      refine r_iload_2 rfl ?_
      refine r_iload_1 rfl ?_
      refine r_iload_2 rfl ?_
      refine r_isub rfl ?_
      rw [e1]
      refine r_iload_2 rfl ?_
      refine r_push rfl ?_
      refine r_ishr rfl ?_
      rw [sr1_a n (by omega)]
      refine r_invP_3 rfl rfl (by decide) (c_newLenG (by omega) ⟨by omega, by omega⟩ (by omega)) ?_
      refine r_istore_3 rfl ?_
      refine r_aload_0 rfl ?_
      refine r_aload_0 rfl ?_
      refine r_getf rfl o rfl ?_
      refine r_iload_3 rfl ?_
      refine r_invE rfl rfl rfl (by decide) (c_copyO w hm o1 (by omega) (by omega)) ?_
      rintro v h' ⟨rfl, rfl⟩
      have o2 := am_new_k (n := n + max 1 (n / 2)) (e := .inl (4, n + max 1 (n / 2), oar (va_cpy f (fun _ => none) 0 0 n))) w o
      refine r_dup_x1R rfl ?_
      refine r_puta rfl o2 rfl ?_
      refine r_aret rfl ?_
      refine ⟨_, _, rfl, n + max 1 (n / 2), _, rfl, by omega, by omega, by omega, am_set_at, am_set_k am_new_at (Ne.symm hza), fun i hi => ?_, ?_⟩
      · unfold va_cpy
        rw [if_pos ⟨Nat.zero_le _, by omega⟩]
        congr 1; omega
      · exact (HF.setP (P := fun x => x = a) ((HF.new w).mono (fun _ z => z.elim) (Nat.le_refl _) (Nat.le_refl _)) o2 rfl).mono (fun _ z => z) (by omega) (by omega)
    · refine r_ifgtF rfl (by decide) ?_
      refine r_aload_0 rfl ?_
      refine r_getf rfl o rfl ?_
      refine r_globR rfl hg ?_
      refine r_aceqT rfl (am_same_y _) ?_
      refine r_aload_0 rfl ?_
      refine r_push rfl ?_
      refine r_iload_1 rfl ?_
      refine r_invP_2 rfl rfl (by decide) (c_max _ _) ?_
      have em : maxF 10 (nI 0 + 1) = nI 10 := by decide
      refine r_newr rfl em (by decide) ?_
      have o2 := am_new_k (n := 10) (e := .inl (4, 10, oar (fun _ => none))) w o
      refine r_dup_x1R rfl ?_
      refine r_puta rfl o2 rfl ?_
      refine r_aret rfl ?_
      refine ⟨_, _, rfl, 10, _, rfl, by decide, by decide, by decide, am_set_at, am_set_k am_new_at (Ne.symm hza), fun i hi => absurd hi (by omega), ?_⟩
      exact (HF.setP (P := fun x => x = a) ((HF.new w).mono (fun _ z => z.elim) (Nat.le_refl _) (Nat.le_refl _)) o2 rfl).mono (fun _ z => z) (by omega) (by omega)
  refine wc_in mt_J2_grow rfl (L := [.ref a]) rfl ?_
  refine r_aload_0 rfl ?_
  refine r_aload_0 rfl ?_
  refine r_getf rfl (by assumption) (by rfl) ?_
  refine r_push rfl ?_
  refine r_iadd rfl ?_
  refine r_invvE rfl rfl (by assumption) rfl rfl (by decide) (key) ?_
  rintro v h' ⟨c', f', rfl, q4⟩
  refine r_aret rfl ?_
  exact ⟨_, _, rfl, c', f', rfl, q4⟩
theorem c_alAddE {h2 : am_H} {mc : Int32} {cap n : Nat} {f : Nat → Option Nat} {b : Nat} {e : Nat × List Value} (o : h2.1 a = some (.inr (4, [.int mc, .ref arr, .int (nI n)]))) (o1 : h2.1 arr = some (.inl (4, cap, oar f))) (hn : n < cap) (hc : cap ≤ 600) (hb : h2.1 b = some (.inr e)) (v2 : Value) : Wp G 5 mt_J2_add_2 11 [.ref a, .ref b, .ref arr, .int (nI n)] [] h2 (fun R => R = .inl (none, am_set (am_set h2 arr (.inl (4, cap, oar (va_up f n (some b))))) a (.inr (4, [.int mc, .ref arr, .int (nI (n + 1))])))) := by
  have hne : a ≠ arr := fun z => by rw [z, o1] at o; cases o
  refine r_aload_2 rfl ?_
  refine r_iload_3 rfl ?_
  refine r_aload_1 rfl ?_
  refine r_aast rfl o1 hb rfl hn (by omega) ?_
  refine r_aload_0 rfl ?_
  refine r_iload_3 rfl ?_
  refine r_push rfl ?_
  refine r_iadd rfl ?_
  rw [nI_1]
  refine r_puti rfl (am_set_k o hne) rfl ?_
  exact r_vret rfl rfl
/-- add behind the last -/
theorem c_alAdd (w : HW h) (og : OG G bs h) (hbs : bs ≤ h.2.1) (q : AL G bs h a arr xs) (hn : xs.length ≤ 390) (hba : bs ≤ a) {b : Nat} {e : Nat × List Value} (hb : h.1 b = some (.inr e)) (hab : b ≠ a) : Ev G 6 m_J2_add [.ref a, .ref b] h (fun v h' => v = .int 1 ∧ ∃ arr', (arr' = arr ∨ arr' = h.2.1) ∧ bs ≤ arr' ∧ AL G bs h' a arr' (xs ++ [b]) ∧ HF (ALP bs a arr) 1 600 h h') := by
  obtain ⟨mc, t, cap, f, o, o1, ht, ⟨hl, hc⟩, hf⟩ := q
  have F1 := HF.set (e := .inr (4, [.int (mc + 1), .ref arr, .int (nI xs.length)])) w o
  have hne : arr ≠ a := fun z => by rw [z, o] at o1; cases o1
  have oga : OG G bs (am_set h a (.inr (4, [.int (mc + 1), .ref arr, .int (nI xs.length)]))) := og.keep F1 (fun x z => by rw [z]; exact hba)
  have p1 := am_set_k (e := .inr (4, [.int (mc + 1), .ref arr, .int (nI xs.length)])) o1 hne
  have pb := am_set_k (e := .inr (4, [.int (mc + 1), .ref arr, .int (nI xs.length)])) hb hab
  have dl := nI_eq (a := xs.length) (b := cap) (by omega) (by omega)
  have key : En G 5 m_J2_add_2 [.ref a, .ref b, .ref arr, .int (nI xs.length)] (am_set h a (.inr (4, [.int (mc + 1), .ref arr, .int (nI xs.length)]))) (fun h' => ∃ arr', (arr' = arr ∨ arr' = h.2.1) ∧ bs ≤ arr' ∧ AL G bs h' a arr' (xs ++ [b]) ∧ HF (ALP bs a arr) 1 600 h h') := by
    have fin : ∀ {h2 : am_H} {cap' arr' : Nat} {f' : Nat → Option Nat}, xs.length < cap' → 10 ≤ cap' → cap' ≤ 600 → bs ≤ arr' → (arr' = arr ∨ arr' = h.2.1) → h2.1 a = some (.inr (4, [.int (mc + 1), .ref arr', .int (nI xs.length)])) → h2.1 arr' = some (.inl (4, cap', oar f')) → (∀ i, i < xs.length → f' i = f i) → HF (ALP bs a arr) 1 600 h h2 → h2.1 b = some (.inr e) →
        Wp G 5 mt_J2_add_2 11 [.ref a, .ref b, .ref arr', .int (nI xs.length)] [] h2 (fun R => ∃ h', R = .inl (none, h') ∧ ∃ arr', (arr' = arr ∨ arr' = h.2.1) ∧ bs ≤ arr' ∧ AL G bs h' a arr' (xs ++ [b]) ∧ HF (ALP bs a arr) 1 600 h h') := by
      intro h2 cap' arr' f' k1 k2 k3 k4 k5 k6 k7 k8 k9 k10
      have hza : a ≠ arr' := fun z => by rw [z, k7] at k6; cases k6
      refine wp_mono (fun R hR => ?_) (c_alAddE k6 k7 k1 k3 k10 .null)
      refine ⟨_, hR, arr', k5, k4, ⟨mc + 1, 4, cap', va_up f' xs.length (some b), ?_, am_set_k am_set_at (Ne.symm hza), Or.inl ⟨rfl, k2, k4⟩, ⟨by rw [List.length_append, List.length_singleton]; omega, k3⟩, fun i hi => ?_⟩, ?_⟩
      · rw [am_set_at, List.length_append, List.length_singleton]
      · rw [List.length_append, List.length_singleton] at hi
        by_cases z : i = xs.length
        · rw [z, va_up_self, List.getElem?_append_right (Nat.le_refl _), Nat.sub_self]; rfl
        · rw [va_up_ne _ _ z, k8 i (by omega), hf i (by omega), List.getElem?_append_left (by omega)]
      · have k9' : HF (ALP bs a arr) 1 600 h (am_set h2 arr' (.inl (4, cap', oar (va_up f' xs.length (some b))))) := by
          rcases k5 with z | z
          · exact HF.setP k9 k7 (Or.inr ⟨z, by rw [z] at k4; exact k4⟩)
          · exact HF.setN k9 k7 w (Nat.le_of_eq z.symm)
        exact HF.setP k9' (am_set_k k6 hza) (Or.inl rfl)
    refine wc_in mt_J2_add_2 rfl (L := [.ref a, .ref b, .ref arr, .int (nI xs.length)]) rfl ?_
    refine r_iload_3 rfl ?_
    refine r_aload_2 rfl ?_
    refine r_alen rfl p1 ?_
    refine r_icne rfl (fun c => ?_) (fun c => ?_)
    · have z : xs.length < cap := Nat.lt_of_le_of_ne hl (fun z => c (dl.mpr z))
      have ht4 : t = 4 ∧ 10 ≤ cap ∧ bs ≤ arr := ht.elim id (fun y => absurd y.2.1 (by omega))
      obtain ⟨rfl, k2, k3⟩ := ht4
      exact fin z k2 hc k3 (Or.inl rfl) am_set_at p1 (fun _ _ => rfl) (F1.mono (fun x y => Or.inl y) (by decide) (by decide)) pb
    · have z := dl.mp c
      refine r_aload_0 rfl ?_
      refine r_invvE rfl rfl am_set_at rfl rfl (by decide) (c_grow F1.w oga (Nat.le_trans hbs F1.z) am_set_at p1 ht z (by omega)) ?_
      rintro v h' ⟨c', f', rfl, k1, k2, k3, k4, k5, k6, F2⟩
      refine r_astore_2 rfl ?_
      exact fin (by omega) k2 k3 hbs (Or.inr rfl) k4 k5 k6 ((HF.trans F1 F2).mono (fun x y => Or.inl y) (by decide) (by decide)) (F2.k pb hab)
  refine wc_in mt_J2_add rfl (L := [.ref a, .ref b]) rfl ?_
  refine r_aload_0 rfl ?_
  refine r_dupR rfl ?_
  refine r_getf rfl (by assumption) (by rfl) ?_
  refine r_push rfl ?_
  refine r_iadd rfl ?_
  refine r_puti rfl (by assumption) rfl ?_
  refine r_aload_0 rfl ?_
  refine r_aload_1 rfl ?_
  refine r_aload_0 rfl ?_
  refine r_getf rfl (am_set_at) (by rfl) ?_
  refine r_aload_0 rfl ?_
  refine r_getf rfl (am_set_at) (by rfl) ?_
  refine r_invvF rfl rfl (am_set_at) rfl rfl (by decide) (key) ?_
  rintro h' q4
  refine r_push rfl ?_
  refine r_zret rfl (Or.inr rfl) ?_
  exact ⟨_, _, rfl, rfl, q4⟩
end
