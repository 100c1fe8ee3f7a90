/-! SHARE: the system -/
set_option maxRecDepth 100000
def Ws (m : Nat → Int32) (s : Nat) : Nat := weightN m (nI s)
theorem smN_ad3 {f g k : Nat → Nat} : ∀ {n : Nat}, (∀ j, j < n → f j = g j + k j) → smN f n = smN g n + smN k n
  | 0, _ => rfl
  | n + 1, h => by
    have i := smN_ad3 (f := f) (g := g) (k := k) (n := n) (fun j hj => h j (by omega))
    have := h n (by omega)
    rw [smN, smN, smN]
    omega
theorem smN_z3 {f : Nat → Nat} : ∀ {n : Nat}, (∀ j, j < n → f j = 0) → smN f n = 0
  | 0, _ => rfl
  | n + 1, h => by
    have i := smN_z3 (f := f) (n := n) (fun j hj => h j (by omega))
    have := h n (by omega)
    rw [smN]
    omega
theorem isF_n {s k : Nat} (hk : k < 32) : isF (nI s) (nI k) = s.testBit k := by rw [isF_tb _ hk, tb_nI hk]
theorem Ws_wl {m : Nat → Int32} (v : VR m) : WL (Ws m) := by
  have h10 := v.ss.2
  refine ⟨smN_z3 fun j hj => ?_, fun s => (weightN_ok v _).2, fun s z hz => smN_ad3 fun j hj => ?_⟩
  · show (if isF (nI 0) (nI j) = true then wtN m j else 0) = 0
    rw [isF_n (by omega), Nat.zero_testBit]
    rfl
  · show (if isF (nI s) (nI j) = true then wtN m j else 0) = (if isF (nI (s ^^^ 2 ^ z)) (nI j) = true then wtN m j else 0) + (if isF (nI (2 ^ z)) (nI j) = true then wtN m j else 0)
    rw [isF_n (by omega), isF_n (by omega), isF_n (by omega), Nat.testBit_xor, pow_bit]
    by_cases d : z = j
    · subst d; rw [hz, decide_eq_true rfl]; simp
    · rw [decide_eq_false d]; simp
theorem smN_o3 {f : Nat → Nat} {z : Nat} : ∀ {n : Nat}, z < n → (∀ j, j < n → j ≠ z → f j = 0) → smN f n = f z
  | 0, h, _ => by omega
  | n + 1, h, h2 => by
    rw [smN]
    by_cases c : z = n
    · subst c
      rw [smN_z3 (fun j hj => h2 j (by omega) (by omega)), Nat.zero_add]
    · rw [smN_o3 (z := z) (by omega) (fun j hj hz => h2 j (by omega) hz), h2 n (by omega) (fun e => c e.symm)]
      omega
theorem Ws_one {m : Nat → Int32} (v : VR m) {z : Nat} (hz : z < nS m) : m (71 + 6 * z) = nI (Ws m (2 ^ z)) := by
  have h10 := v.ss.2
  have e : Ws m (2 ^ z) = (if isF (nI (2 ^ z)) (nI z) = true then wtN m z else 0) := smN_o3 hz fun j hj hjz => by
    show (if isF (nI (2 ^ z)) (nI j) = true then wtN m j else 0) = 0
    rw [isF_n (by omega), pow_bit, decide_eq_false (Ne.symm hjz)]
    rfl
  rw [isF_n (by omega), pow_bit, decide_eq_true rfl, if_pos rfl] at e
  rw [e]
  exact (wtN_ok v hz).1
/-- who is there -/
def pB (m : Nat → Int32) (q : Nat) (p : Nat) : Bool := decide (m (35 + 6 * p) = nI q)
def woN (m : Nat → Int32) (p : Nat) : Nat := bsN (fun s => decide (m (72 + 6 * s) = 0) && decide (m (73 + 6 * s) = nI p)) (nS m)
/-- what the first so many wear, if there -/
def stF (m : Nat → Int32) (q : Nat) : Nat → Nat
  | 0 => 0
  | p + 1 => stF m q p ||| (if pB m q p = true then woN m p else 0)
theorem woN_ok {m : Nat → Int32} (v : VR m) (p : Nat) : wornF m (nI p) = nI (woN m p) := bsF_N (by have := v.ss.2; omega)
theorem stF_bit {m : Nat → Int32} {q i : Nat} : ∀ p, (stF m q p).testBit i = true → i < nS m
  | 0, h => by rw [stF, Nat.zero_testBit] at h; cases h
  | p + 1, h => by
    rw [stF, Nat.testBit_or] at h
    cases c : (stF m q p).testBit i with
    | true => exact stF_bit p c
    | false =>
      rw [c, Bool.false_or] at h
      split at h
      · unfold woN at h
        rw [bsN_bit] at h
        by_cases d : i < nS m
        · exact d
        · rw [decide_eq_false d, Bool.false_and] at h; cases h
      · rw [Nat.zero_testBit] at h; cases h
theorem stF_lt {m : Nat → Int32} (v : VR m) {q : Nat} (p : Nat) : stF m q p < 1024 := by
  have h10 := v.ss.2
  refine Nat.lt_pow_two_of_testBit (n := 10) _ fun i hi => ?_
  cases e : (stF m q p).testBit i with
  | false => rfl
  | true => have := stF_bit p e; omega
theorem or_I (a c : Nat) : nI a ||| nI c = nI (a ||| c) := by
  apply tb_ext
  intro i hi
  rw [tb_or, tb_nI hi, tb_nI hi, tb_nI hi, Nat.testBit_or]
/-- whom the k-th goes to -/
def whW (W : Nat → Nat) (n st v : Nat) (P : Nat → Nat) (k : Int32) : Int32 := if inF k 0 (nI (cntB st.testBit 10) - 1) = false then -1 else nI (P (gvT W n st (selB st.testBit 10 k.toNatClampNeg) (gvR W n st v (selB st.testBit 10 k.toNatClampNeg))))
def shF (m : Nat → Int32) (q : Nat) (k : Int32) : Int32 := if cntB (pB m q) (nP m) = 0 then -1 else if k = -1 then nonV (mF (Ws m) (cntB (pB m q) (nP m)) (stF m q (nP m))) else whW (Ws m) (cntB (pB m q) (nP m)) (stF m q (nP m)) ((mF (Ws m) (cntB (pB m q) (nP m)) (stF m q (nP m))).getD 0) (selB (pB m q) (nP m)) k
def qShare (m : Nat → Int32) (q k : Int32) : Nat × Int32 := if inF q 0 11 = false then (1, 0) else (0, shF m q.toNatClampNeg k)
theorem whW_at {W : Nat → Nat} {n st v : Nat} {P : Nat → Nat} {z : Nat} (hz : z < 10) (hb : st.testBit z = true) : whW W n st v P (nI (cntB st.testBit z)) = nI (P (gvT W n st z (gvR W n st v z))) := by
  have h1 := cntB_lt hz hb
  have h2 := cntB_n (b := st.testBit) 10
  unfold whW
  rw [if_neg, nI_clamp (by omega), selB_at hb 10 hz]
  rw [show (1 : Int32) = nI 1 from rfl, nI_sub (by omega), inF_t (show (0 : Int32) ≤ _ from nI_le (a := 0) (by omega) (by omega)) (nI_le (by omega) (by omega))]
  decide
theorem whW_no {W : Nat → Nat} {n st v : Nat} {P : Nat → Nat} {k : Int32} (h : ∀ z, z < 10 → st.testBit z = true → k ≠ nI (cntB st.testBit z)) : whW W n st v P k = -1 := by
  have h2 := cntB_n (b := st.testBit) 10
  unfold whW
  by_cases c : inF k 0 (nI (cntB st.testBit 10) - 1) = false
  · rw [if_pos c]
  · have c : inF k 0 (nI (cntB st.testBit 10) - 1) = true := by simpa using c
    by_cases z : cntB st.testBit 10 = 0
    · rw [z] at c
      exfalso
      unfold inF at c
      rw [Bool.and_eq_true] at c
      have h1 := of_decide_eq_true c.1
      have h2 := of_decide_eq_true c.2
      exact absurd (Int32.le_trans h1 h2) (by decide)
    · rw [show (1 : Int32) = nI 1 from rfl] at c
      obtain ⟨i, hi, rfl⟩ := inF_nI (by omega) c
      obtain ⟨a, h1, h3, h4⟩ := cntB_ex (b := st.testBit) 10 i hi
      exact absurd (by rw [h4]) (h a h1 h3)
theorem am_set4 {h : am_H} {a c : Nat} {e e' f f' : am_C} (n : a ≠ c) : am_set (am_set (am_set (am_set h a e) c f) a e') c f' = am_set (am_set h a e') c f' := by
  rw [am_set_comm (a := c) (c := a) (Ne.symm n), am_set_set, am_set_set]
theorem am_set3 {h : am_H} {a c : Nat} {e e' f : am_C} (n : a ≠ c) : am_set (am_set (am_set h a e) c f) a e' = am_set (am_set h a e') c f := by
  rw [am_set_comm (a := c) (c := a) (Ne.symm n), am_set_set]
section
variable {G : am_G} {h : am_H} {x y : Nat} {hi : Bool} {m b g : Nat → Int32} {l : Value} {W R : Nat → Nat}
theorem c_x5great {n st : Nat} {fl : Nat → Int32} (o : h.1 (x + 65) = some (soI x (nI n) (nI st))) (ol : h.1 (x + 66) = some (.inl (0, 7168, .inl fl))) (hs : st < 1024) (hn : 0 < n) (hn6 : n ≤ 6) : Vc G 1 m_X5_greatest [.ref (x + 65)] h (.int (fl st)) := by
  refine wc_in mt_X5_greatest rfl (L := [.ref (x + 65)]) rfl ?_
  refine r_aload_0 rfl ?_
  refine r_getf rfl (by assumption) (by rfl) ?_
  refine r_ifneT rfl (fun q => absurd (nI_inj (c := 0) (by omega) (by decide) q) (by omega)) ?_
  refine r_aload_0 rfl ?_
  refine r_getf rfl (by assumption) (by rfl) ?_
  refine r_aload_0 rfl ?_
  refine r_push rfl ?_
  refine r_aload_0 rfl ?_
  refine r_getf rfl (by assumption) (by rfl) ?_
  refine r_invvP_2 rfl (by assumption) rfl rfl (by decide) (c_x5at (k := 0) (by decide) _) ?_
  refine r_iald rfl (ol) (rfl) (show 1024 * 0 + st < 7168 by omega) (by first | decide | omega) ?_
  refine r_iret rfl ?_
  rw [show 1024 * 0 + st = st by omega]
theorem c_x5great0 {st : Int32} (o : h.1 (x + 65) = some (soI x 0 st)) : Vc G 1 m_X5_greatest [.ref (x + 65)] h (.int 1000000) := by
  refine wc_in mt_X5_greatest rfl (L := [.ref (x + 65)]) rfl ?_
  refine r_aload_0 rfl ?_
  refine r_getf rfl (by assumption) (by rfl) ?_
  refine r_ifneF rfl (rfl) ?_
  refine r_push rfl ?_
  refine r_goto rfl ?_
  refine r_iret rfl ?_
  rfl
theorem c_x5whom {n st v : Nat} {fe fs fl fg fw : Nat → Int32} {P : Nat → Nat} {k : Int32} (wl : WL W) (hx : h.1 x = some (.inr (0, xobj x hi))) (q : WA h (x + 1) m b l) (o : h.1 (x + 65) = some (soI x (nI n) (nI st))) (oe : h.1 (x + 66) = some (.inl (0, 7168, .inl fe))) (ow : h.1 (x + 67) = some (.inl (0, 6, .inl fw))) (os : h.1 (x + 68) = some (.inl (0, 1024, .inl fs))) (ol : h.1 (x + 69) = some (.inl (0, 6, .inl fl))) (og : h.1 (x + 70) = some (.inl (1, 1024, .inl fg))) (hs : st < 1024) (hn : n ≤ 6) (hn0 : 0 < n) (hv : mF W n st = some v) (ev : fe st = nI v) (hS : ∀ p, inS p st → fs p = nI (W p)) (hw : ∀ s, st.testBit s = true → m (71 + 6 * s) = nI (W (2 ^ s))) (hP : ∀ t, t < n → fw t = nI (P t)) : Ev G 3 m_X5_whomOf [.ref (x + 65), .int k] h (fun r h' => r = .int (whW W n st v P k) ∧ ∃ fl' fg', h' = am_set (am_set h (x + 69) (.inl (0, 6, .inl fl'))) (x + 70) (.inl (1, 1024, .inl fg'))) := by
  have hv4 := mF_le wl n st v hv
  refine wc_in mt_X5_whomOf rfl (L := [.ref (x + 65), .int k, am_un, am_un, am_un, am_un]) rfl ?_
  refine r_aload_0 rfl ?_
  refine r_invvP_0 rfl o rfl rfl (by decide) (c_x5great o oe hs hn0 hn) ?_
  rw [ev]
  refine r_istore_2 rfl ?_
  refine r_aload_0 rfl ?_
  refine r_getf rfl o rfl ?_
  refine r_push rfl ?_
  refine r_invV rfl rfl rfl (by decide) (c_fill (by decide) ol) ?_
  refine r_push rfl ?_
  refine r_istore_3 rfl ?_
  refine r_push rfl ?_
  refine r_istore_4 rfl ?_
  refine wp_forH 10 (fun s Ls h' => (∃ x5, Ls = [.ref (x + 65), .int k, .int (nI v), .int (nI (cntB st.testBit s)), .int (nI s), x5]) ∧ (∀ z, z < s → st.testBit z = true → k ≠ nI (cntB st.testBit z)) ∧ ∃ fl fg, h' = am_set (am_set h (x + 69) (.inl (0, 6, .inl fl))) (x + 70) (.inl (1, 1024, .inl fg)) ∧ ∀ k, k < 6 → fl k = nI (v - gvR W n st v s k)) (fun s Ls h' hs10 hK kont => ?_) (fun Ls h' hK => ?_) _ _ ⟨⟨am_un, rfl⟩, fun z hz => absurd hz (Nat.not_lt_zero _), _, fg, (am_set_id (am_set_k og (by omega))).symm, fun k hk => ?_⟩
  · obtain ⟨⟨x5, rfl⟩, hno, fl, fg, rfl, hL⟩ := hK
    have ob : (am_set (am_set h (x + 69) (.inl (0, 6, .inl fl))) (x + 70) (.inl (1, 1024, .inl fg))).1 (x + 65) = _ := am_set_k (am_set_k o (by omega)) (by omega)
    cases c : st.testBit s with
    | false =>
      have e1 : cntB st.testBit (s + 1) = cntB st.testBit s := by rw [cntB, c]; rfl
      have e2 : gvR W n st v (s + 1) = gvR W n st v s := by rw [gvR, c]; rfl
      refine r_iload_4 rfl ?_
      refine r_push rfl ?_
      refine r_icgeF rfl (nI_lt hs10 (by decide)) ?_
      refine r_aload_0 rfl ?_
      refine r_getf rfl (ob) (by rfl) ?_
      refine r_iload_4 rfl ?_
      refine r_invP_2 rfl rfl (by decide) (c_has _ _) ?_
      refine r_ifneF rfl (by rw [isF_n (by omega), c]; rfl) ?_
      refine r_goto rfl ?_
      refine r_iinc_4 rfl ?_
      refine r_goto rfl ?_
      rw [nI_1]
      refine kont _ _ ⟨⟨_, by rw [e1]⟩, fun z hz hb => ?_, fl, fg, rfl, by rw [e2]; exact hL⟩
      by_cases d : z = s
      · subst d; rw [c] at hb; cases hb
      · exact hno z (by omega) hb
    | true =>
      obtain ⟨ok, tn, bad⟩ := gv_ok wl hv c
      obtain ⟨R, eR⟩ : ∃ R, R = gvR W n st v s := ⟨_, rfl⟩
      obtain ⟨T, eT⟩ : ∃ T, T = gvT W n st s (gvR W n st v s) := ⟨_, rfl⟩
      rw [← eT] at ok tn bad
      rw [← eR] at ok bad hL
      have hL' : ∀ k, k < 6 → fl k = nI (v - R k) ∧ R k ≤ v := fun k hk => ⟨hL k hk, by rw [eR]; exact gvR_le s k⟩
      have e1 : cntB st.testBit (s + 1) = cntB st.testBit s + 1 := by rw [cntB, c]; rfl
      have e2 : gvR W n st v (s + 1) = updN R T (R T - W (2 ^ s)) := by rw [gvR, c, if_pos rfl, ← eT, ← eR]
      have inner : ∀ (d t : Nat) (fg : Nat → Int32), t + d = T → Wp G 3 mt_X5_whomOf 43 [.ref (x + 65), .int k, .int (nI v), .int (nI (cntB st.testBit s)), .int (nI s), .int (nI t)] [] (am_set (am_set h (x + 69) (.inl (0, 6, .inl fl))) (x + 70) (.inl (1, 1024, .inl fg))) (fun R' => ∃ r h', R' = .inl (some r, h') ∧ r = .int (whW W n st v P k) ∧ ∃ fl' fg', h' = am_set (am_set h (x + 69) (.inl (0, 6, .inl fl'))) (x + 70) (.inl (1, 1024, .inl fg'))) := by
        intro d
        induction d with
        | zero =>
          intro t fg ht
          have ht : t = T := by omega
          subst ht
          have ob : (am_set (am_set h (x + 69) (.inl (0, 6, .inl fl))) (x + 70) (.inl (1, 1024, .inl fg))).1 (x + 65) = _ := am_set_k (am_set_k o (by omega)) (by omega)
          refine r_aload_0 rfl ?_
          refine r_iload_5 rfl ?_
          refine r_iload_4 rfl ?_
          refine r_iload_2 rfl ?_
          refine r_invvE rfl rfl ob rfl rfl (by decide) (c_x5takes (hi := hi) (m := m) (b := b) (l := l) wl (am_set_k (am_set_k hx (by omega)) (by omega)) (fun i hi => am_set_k (am_set_k (q i hi) (by omega)) (by omega)) ob (am_set_k (am_set_k os (by omega)) (by omega)) (am_set_k am_set_at (by omega)) am_set_at hs hn hs10 tn hv4 hS hL' (hw s c)) ?_
          rintro r h1 ⟨rfl, fg', rfl⟩
          rw [ok, if_pos rfl, am_set4 (by omega)]
          have ob2 : ∀ {e}, h.1 (x + 65) = some e → (am_set (am_set h (x + 69) (.inl (0, 6, .inl (upd fl t (nI (v - (R t - W (2 ^ s)))))))) (x + 70) (.inl (1, 1024, .inl fg'))).1 (x + 65) = some e := fun z => am_set_k (am_set_k z (by omega)) (by omega)
          by_cases ek : k = nI (cntB st.testBit s)
          · subst ek
            refine r_ifneT rfl (by decide) ?_
            refine r_iload_3 rfl ?_
            refine r_iload_1 rfl ?_
            refine r_icneF rfl (rfl) ?_
            refine r_aload_0 rfl ?_
            refine r_getf rfl (ob2 o) (by rfl) ?_
            refine r_iload_5 rfl ?_
            refine r_iald rfl (am_set_k (am_set_k ow (by omega)) (by omega)) (rfl) (show t < 6 by omega) (by first | decide | omega) ?_
            refine r_iret rfl ?_
            exact ⟨_, _, rfl, by rw [hP t tn, whW_at hs10 c, ← eT], _, fg', rfl⟩
          · refine r_ifneT rfl (by decide) ?_
            refine r_iload_3 rfl ?_
            refine r_iload_1 rfl ?_
            refine r_icneT rfl (fun e => ek e.symm) ?_
            refine r_iinc_3 rfl ?_
            refine r_iinc_4 rfl ?_
            refine r_goto rfl ?_
            rw [nI_1, nI_1]
            refine kont _ _ ⟨⟨_, by rw [e1]⟩, fun z hz hb => ?_, _, fg', rfl, fun k hk => ?_⟩
            · by_cases d : z = s
              · subst d; exact ek
              · exact hno z (by omega) hb
            · rw [e2]
              by_cases d : k = t
              · subst d; rw [upd_eq, updN_eq]
              · rw [upd_ne d, updN_ne d]; exact hL k hk
        | succ d ih =>
          intro t fg ht
          have ob : (am_set (am_set h (x + 69) (.inl (0, 6, .inl fl))) (x + 70) (.inl (1, 1024, .inl fg))).1 (x + 65) = _ := am_set_k (am_set_k o (by omega)) (by omega)
          refine r_aload_0 rfl ?_
          refine r_iload_5 rfl ?_
          refine r_iload_4 rfl ?_
          refine r_iload_2 rfl ?_
          refine r_invvE rfl rfl ob rfl rfl (by decide) (c_x5takes (hi := hi) (m := m) (b := b) (l := l) (t := t) wl (am_set_k (am_set_k hx (by omega)) (by omega)) (fun i hi => am_set_k (am_set_k (q i hi) (by omega)) (by omega)) ob (am_set_k (am_set_k os (by omega)) (by omega)) (am_set_k am_set_at (by omega)) am_set_at hs hn hs10 (by omega) hv4 hS hL' (hw s c)) ?_
          rintro r h1 ⟨rfl, fg', rfl⟩
          rw [bad t (by omega), if_neg (by decide), am_set4 (by omega)]
          have again := ih (t + 1) fg' (by omega)
          refine r_ifneF rfl (rfl) ?_
          refine r_iinc_5 rfl ?_
          refine r_goto rfl ?_
          rw [nI_1]
          exact again
      refine r_iload_4 rfl ?_
      refine r_push rfl ?_
      refine r_icgeF rfl (nI_lt hs10 (by decide)) ?_
      refine r_aload_0 rfl ?_
      refine r_getf rfl (ob) (by rfl) ?_
      refine r_iload_4 rfl ?_
      refine r_invP_2 rfl rfl (by decide) (c_has _ _) ?_
      refine r_ifneT rfl (by rw [isF_n (by omega), c]; decide) ?_
      refine r_push rfl ?_
      refine r_istore_5 rfl ?_
      exact inner T 0 fg (by omega)
  · obtain ⟨⟨x5, rfl⟩, hno, fl, fg, rfl, hL⟩ := hK
    refine r_iload_4 rfl ?_
    refine r_push rfl ?_
    refine r_icgeT rfl (Int32.le_refl _) ?_
    refine r_push rfl ?_
    refine r_iret rfl ?_
    exact ⟨_, _, rfl, by rw [whW_no hno], fl, fg, rfl⟩
  · show (if k < 6 then (0 : Int32) else fl k) = nI (v - v)
    rw [if_pos hk, Nat.sub_self]; rfl
end
