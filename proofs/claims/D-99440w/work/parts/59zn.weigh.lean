/-! SCALES, WEIGH: what they answer; the system -/
set_option maxRecDepth 100000
def qScales (m T : Nat → Int32) (n : Nat) (no : Int32) : Nat × Int32 := if goodB m T n = false then (1, 0) else (0, if no = 0 then bsF (fun s => caseB m T n (some s)) (nS m) else bI (caseB m T n none))
/-- how many cases -/
def cnN (m : Nat → Int32) (f : Option Nat → Bool) : Nat := (if f none = true then 1 else 0) + smN (fun s => if f (some s) = true then 1 else 0) (nS m)
def sdB (m T : Nat → Int32) (n a c side : Nat) (o : Option Nat) : Bool := caseB m T n o && decide (skN m a c o = side)
def pbO (m T : Nat → Int32) (n a c : Nat) : Option Nat := if cnN m (caseB m T n) < 2 then none else some (max (cnN m (sdB m T n a c 0)) (max (cnN m (sdB m T n a c 1)) (cnN m (sdB m T n a c 2))))
def wst (st : Option (Nat × Nat)) (p : Option Nat) (c : Nat) : Option (Nat × Nat) := match p with
  | none => st
  | some k => match st with
    | none => some (k, c)
    | some (q, d) => if k < q then some (k, c) else some (q, d)
def wIn (F : Nat → Nat → Option Nat) (a : Nat) (st : Option (Nat × Nat)) : Nat → Option (Nat × Nat)
  | 0 => st
  | k + 1 => wst (wIn F a st k) (F a (a + 1 + k)) (10 * a + (a + 1 + k))
def wOut (F : Nat → Nat → Option Nat) (P : Nat) : Nat → Option (Nat × Nat)
  | 0 => none
  | a + 1 => wIn F a (wOut F P a) (P - (a + 1))
def wcV : Option (Nat × Nat) → Int32
  | none => -1
  | some (_, c) => nI c
def wlV (far : Int32) : Option (Nat × Nat) → Int32
  | none => far
  | some (q, _) => nI q
def qWeigh (m T : Nat → Int32) (n : Nat) : Nat × Int32 := if goodB m T n = false then (1, 0) else (0, wcV (wOut (pbO m T n) (nP m) (nP m)))
theorem smN_congr {f g : Nat → Nat} : ∀ {n : Nat}, (∀ k, k < n → f k = g k) → smN f n = smN g n
  | 0, _ => rfl
  | n + 1, h => by rw [smN, smN, smN_congr (fun k hk => h k (by omega)), h n (by omega)]
theorem smN_add {f g : Nat → Nat} : ∀ {n : Nat}, smN f n + smN g n = smN (fun k => f k + g k) n
  | 0 => rfl
  | n + 1 => by rw [smN, smN, smN, ← smN_add (n := n)]; omega
theorem skN_lt {m : Nat → Int32} {a c : Nat} {o : Option Nat} : skN m a c o < 3 := by unfold skN; (repeat' split) <;> decide
theorem bit3 {m T : Nat → Int32} {n a c : Nat} (o : Option Nat) : (if sdB m T n a c 0 o = true then 1 else 0) + (if sdB m T n a c 1 o = true then 1 else 0) + (if sdB m T n a c 2 o = true then 1 else 0) = if caseB m T n o = true then 1 else 0 := by
  have h := skN_lt (m := m) (a := a) (c := c) (o := o)
  unfold sdB
  rcases (show skN m a c o = 0 ∨ skN m a c o = 1 ∨ skN m a c o = 2 by omega) with e | e | e <;> rw [e] <;> cases caseB m T n o <;> rfl
theorem cn3 {m T : Nat → Int32} {n a c : Nat} : cnN m (sdB m T n a c 0) + cnN m (sdB m T n a c 1) + cnN m (sdB m T n a c 2) = cnN m (caseB m T n) := by
  unfold cnN
  have e0 := bit3 (m := m) (T := T) (n := n) (a := a) (c := c) none
  have e1 : smN (fun s => if sdB m T n a c 0 (some s) = true then 1 else 0) (nS m) + smN (fun s => if sdB m T n a c 1 (some s) = true then 1 else 0) (nS m) + smN (fun s => if sdB m T n a c 2 (some s) = true then 1 else 0) (nS m) = smN (fun s => if caseB m T n (some s) = true then 1 else 0) (nS m) := by
    rw [smN_add, smN_add]
    exact smN_congr fun k _ => bit3 (some k)
  omega
theorem cnN_le {m : Nat → Int32} (hS : nS m ≤ 10) {f : Option Nat → Bool} : cnN m f ≤ 11 := by
  have := smN_le (f := fun s => if f (some s) = true then 1 else 0) (c := 1) (n := nS m) (fun k _ => by show (if _ then 1 else 0) ≤ 1; split <;> decide)
  unfold cnN
  split <;> omega
theorem pbO_le {m T : Nat → Int32} {n a c k : Nat} (hS : nS m ≤ 10) (e : pbO m T n a c = some k) : k ≤ 11 := by
  unfold pbO at e
  split at e
  · cases e
  · cases e
    have h0 := cnN_le hS (f := sdB m T n a c 0)
    have h1 := cnN_le hS (f := sdB m T n a c 1)
    have h2 := cnN_le hS (f := sdB m T n a c 2)
    omega
/-- what is known of the best one so far -/
def wOK : Option (Nat × Nat) → Prop
  | none => True
  | some (q, c) => q ≤ 11 ∧ c < 100
theorem wst_ok {st : Option (Nat × Nat)} {p : Option Nat} {c : Nat} (h : wOK st) (hp : ∀ k, p = some k → k ≤ 11) (hc : c < 100) : wOK (wst st p c) := by
  cases p with
  | none => exact h
  | some k =>
    have hk := hp k rfl
    cases st with
    | none => exact ⟨hk, hc⟩
    | some z =>
      obtain ⟨q, d⟩ := z
      show wOK (if k < q then some (k, c) else some (q, d))
      split
      · exact ⟨hk, hc⟩
      · exact h
theorem wIn_ok {F : Nat → Nat → Option Nat} {a P : Nat} {st : Option (Nat × Nat)} (h : wOK st) (hF : ∀ a c k, F a c = some k → k ≤ 11) (hP : P ≤ 6) : ∀ k, a + 1 + k ≤ P → wOK (wIn F a st k)
  | 0, _ => h
  | k + 1, hk => wst_ok (wIn_ok h hF hP k (by omega)) (fun z e => hF _ _ _ e) (by omega)
theorem wOut_ok {F : Nat → Nat → Option Nat} {P : Nat} (hF : ∀ a c k, F a c = some k → k ≤ 11) (hP : P ≤ 6) : ∀ a, a ≤ P → wOK (wOut F P a)
  | 0, _ => trivial
  | a + 1, ha => wIn_ok (wOut_ok hF hP a (by omega)) hF hP _ (by omega)
section
variable {G : am_G} {h : am_H} {x y : Nat} {hi : Bool} {m b g T f : Nat → Int32} {l : Value} {len n : Nat} {at_ bg ft dp : Int32}
theorem c_xWeighedT (hw : HW h) (o : h.1 x = some (.inr (0, xobj x hi))) (q : WA h (x + 1) m b l) (v : VR m) (r : RS h (x + 46) f n len at_ bg ft dp) (hn : n ≤ 400) (tb : TB T) (tf : ∀ k, k < 400 → f k = sbI (T k)) : Etn G 4 m_X1_weighed [.ref x] h (fun h' => goodB m T n = true ∧ RS h' (x + 46) f 0 n 0 bg ft 0 ∧ HF (isR (x + 46)) 0 0 h h') (fun c h' => goodB m T n = false ∧ c = 18 ∧ ∃ h2, RS h2 (x + 46) f 0 n 0 bg ft 0 ∧ HF (isR (x + 46)) 0 0 h h2 ∧ h' = am_skip h2 6) := by
  refine wc_mono ?_ (c_xWeighed hw o q v r hn tb tf)
  rintro R ⟨h', r', F, e⟩
  cases gd : goodB m T n with
  | true => rw [if_pos gd] at e; exact Or.inl ⟨h', e, rfl, r', F⟩
  | false => rw [if_neg (by rw [gd]; decide)] at e; exact Or.inr ⟨18, _, e, rfl, rfl, h', r', F, rfl⟩
/-- what the tape's use leaves -/
abbrev TU (G : am_G) (d k : Nat) (As : List Value) (h : am_H) (x n : Nat) (f : Nat → Int32) (bg ft : Int32) (r : Nat × Int32) (c : Nat) : Prop := Et G d k As h (fun v h' => r.1 = 0 ∧ v = .int r.2 ∧ RS h' (x + 46) f 0 n 0 bg ft 0 ∧ HF (isR (x + 46)) 0 0 h h') (fun c' h' => r.1 ≠ 0 ∧ c' = c ∧ ∃ h2, RS h2 (x + 46) f 0 n 0 bg ft 0 ∧ HF (isR (x + 46)) 0 0 h h2 ∧ h' = am_skip h2 6)
theorem c_xScales (hw : HW h) (o : h.1 x = some (.inr (0, xobj x hi))) (q : WA h (x + 1) m b l) (v : VR m) (yb : BY b m) (r : RS h (x + 46) f n len at_ bg ft dp) (hn : n ≤ 400) (tb : TB T) (tf : ∀ k, k < 400 → f k = sbI (T k)) (no : Int32) : TU G 7 m_X1_scales [.ref x, .int no] h x n f bg ft (qScales m T n no) 18 := by
  have hS := v.ss.2
  have e4 := v.ss.1
  refine wc_in mt_X1_scales rfl (L := [.ref x, .int no, am_un, am_un]) rfl ?_
  refine r_aload_0 rfl ?_
  refine r_invvS rfl rfl o rfl rfl rfl (by decide) (c_xWeighedT hw o q v r hn tb tf) (fun h1 z => ?_) (fun c h1 z => ?_)
  · obtain ⟨gd, r1, F1⟩ := z
    have o1 := F1.k o (show ¬ isR (x + 46) x by unfold isR; omega)
    have w1 := q.keep F1 (fun a z => by unfold isR at z; omega)
    have o0 := wa_o w1
    have e9 : qScales m T n no = (0, if no = 0 then bsF (fun s => caseB m T n (some s)) (nS m) else bI (caseB m T n none)) := by unfold qScales; rw [if_neg (by rw [gd]; decide)]
    rw [e9]
    by_cases c : no = 0
    · rw [if_pos c]
      refine r_iload_1 rfl ?_
      refine r_ifeqT rfl c ?_
      refine r_push rfl ?_
      refine r_istore_2 rfl ?_
      refine r_push rfl ?_
      refine r_istore_3 rfl ?_
      refine wp_for (nS m) (fun j => [.ref x, .int no, .int (bsF (fun s => caseB m T n (some s)) j), .int (nI j)]) (fun j hj k => ?_) ?_
      · have ic := c_xIsCase (G := G) o1 w1 v yb r1 tb tf gd (ho := some j) (fun s es => by cases es; exact hj)
        cases cb : caseB m T n (some j) with
        | true =>
          rw [cb] at ic
          refine r_iload_3 rfl ?_
          refine r_aload_0 rfl ?_
          refine r_getf rfl (by assumption) (by rfl) ?_
          refine r_getf rfl (by assumption) (by rfl) ?_
          refine r_icgeF rfl (by rw [e4]; exact nI_lt hj (by omega)) ?_
          refine r_iload_2 rfl ?_
          refine r_aload_0 rfl ?_
          refine r_iload_3 rfl ?_
          refine r_invvP_1 rfl (o1) rfl rfl (by decide) (ic) ?_
          refine r_ifeqF rfl (by decide) ?_
          refine r_push rfl ?_
          refine r_iload_3 rfl ?_
          refine r_ishl rfl ?_
          refine r_goto rfl ?_
          refine r_ior rfl ?_
          refine r_istore_2 rfl ?_
          refine r_iinc_3 rfl ?_
          refine r_goto rfl ?_
          rw [nI_1, ← bsF_t (c := fun s => caseB m T n (some s)) cb]
          exact k
        | false =>
          rw [cb] at ic
          refine r_iload_3 rfl ?_
          refine r_aload_0 rfl ?_
          refine r_getf rfl (by assumption) (by rfl) ?_
          refine r_getf rfl (by assumption) (by rfl) ?_
          refine r_icgeF rfl (by rw [e4]; exact nI_lt hj (by omega)) ?_
          refine r_iload_2 rfl ?_
          refine r_aload_0 rfl ?_
          refine r_iload_3 rfl ?_
          refine r_invvP_1 rfl (o1) rfl rfl (by decide) (ic) ?_
          refine r_ifeqT rfl (rfl) ?_
          refine r_push rfl ?_
          refine r_ior rfl ?_
          refine r_istore_2 rfl ?_
          refine r_iinc_3 rfl ?_
          refine r_goto rfl ?_
          rw [nI_1, ← bsF_f (c := fun s => caseB m T n (some s)) cb]
          exact k
      · refine r_iload_3 rfl ?_
        refine r_aload_0 rfl ?_
        refine r_getf rfl (by assumption) (by rfl) ?_
        refine r_getf rfl (by assumption) (by rfl) ?_
        refine r_icgeT rfl (by rw [e4]; exact Int32.le_refl _) ?_
        refine r_iload_2 rfl ?_
        refine r_iret rfl ?_
        exact Or.inl ⟨_, _, rfl, rfl, rfl, r1, F1⟩
    · rw [if_neg c]
      have ic := c_xIsCase (G := G) o1 w1 v yb r1 tb tf gd (ho := none) (fun s es => by cases es)
      cases cb : caseB m T n none with
      | true =>
        rw [cb] at ic
        refine r_iload_1 rfl ?_
        refine r_ifeqF rfl (c) ?_
        refine r_aload_0 rfl ?_
        refine r_push rfl ?_
        refine r_invvP_1 rfl (o1) rfl rfl (by decide) (ic) ?_
        refine r_ifeqF rfl (by decide) ?_
        refine r_push rfl ?_
        refine r_goto rfl ?_
        refine r_iret rfl ?_
        exact Or.inl ⟨_, _, rfl, rfl, rfl, r1, F1⟩
      | false =>
        rw [cb] at ic
        refine r_iload_1 rfl ?_
        refine r_ifeqF rfl (c) ?_
        refine r_aload_0 rfl ?_
        refine r_push rfl ?_
        refine r_invvP_1 rfl (o1) rfl rfl (by decide) (ic) ?_
        refine r_ifeqT rfl (rfl) ?_
        refine r_push rfl ?_
        refine r_iret rfl ?_
        exact Or.inl ⟨_, _, rfl, rfl, rfl, r1, F1⟩
  · obtain ⟨gd, rfl, h2, r2, F2, rfl⟩ := z
    have e9 : qScales m T n no = (1, 0) := by unfold qScales; rw [if_pos gd]
    rw [e9]
    exact Or.inr ⟨_, _, rfl, by decide, rfl, h2, r2, F2, rfl⟩
theorem c_xPartBy (o : h.1 x = some (.inr (0, xobj x hi))) (q : WA h (x + 1) m b l) (v : VR m) (yb : BY b m) (r : RS h (x + 46) f len n at_ bg ft dp) (tb : TB T) (tf : ∀ k, k < 400 → f k = sbI (T k)) (gd : goodB m T n = true) (a c : Nat) : Vc G 6 m_X1_partBy [.ref x, .int (nI a), .int (nI c)] h (.int (nonV (pbO m T n a c))) := by
  have hS := v.ss.2
  have e4 := v.ss.1
  have o0 := wa_o q
  refine wc_in mt_X1_partBy rfl (L := [.ref x, .int (nI a), .int (nI c), am_un, am_un, am_un, am_un, am_un]) rfl ?_
  have body : ∀ (ho : Option Nat) (sv : Int32) (u0 u1 u2 : Nat) (a7 : Value), (∀ s, ho = some s → s < nS m) → hoI ho = sv → (∀ a7', Wp G 6 mt_X1_partBy 11 [.ref x, .int (nI a), .int (nI c), .int (nI (u0 + if sdB m T n a c 0 ho = true then 1 else 0)), .int (nI (u1 + if sdB m T n a c 1 ho = true then 1 else 0)), .int (nI (u2 + if sdB m T n a c 2 ho = true then 1 else 0)), .int (sv + 1), a7'] [] h (fun R => R = .inl (some (.int (nonV (pbO m T n a c))), h))) → Wp G 6 mt_X1_partBy 23 [.ref x, .int (nI a), .int (nI c), .int (nI u0), .int (nI u1), .int (nI u2), .int sv, a7] [] h (fun R => R = .inl (some (.int (nonV (pbO m T n a c))), h)) := by
    rintro ho sv u0 u1 u2 a7 hs rfl kont
    have ic := c_xIsCase (G := G) o q v yb r tb tf gd hs
    cases cb : caseB m T n ho with
    | false =>
      rw [cb] at ic
      have z : ∀ k, sdB m T n a c k ho = false := fun k => by unfold sdB; rw [cb, Bool.false_and]
      rw [z, z, z] at kont
      refine r_aload_0 rfl ?_
      refine r_iload_6 rfl ?_
      refine r_invvP_1 rfl (o) rfl rfl (by decide) (ic) ?_
      refine r_ifneF rfl (rfl) ?_
      refine r_goto rfl ?_
      refine r_iinc_6 rfl ?_
      refine r_goto rfl ?_
      exact kont _
    | true =>
      rw [cb] at ic
      have hk : HOK m ho := (wnB_hok hs).mp (by have := cb; unfold caseB at this; rw [Bool.and_eq_true] at this; exact this.1)
      have z : ∀ k, sdB m T n a c k ho = decide (skN m a c ho = k) := fun k => by unfold sdB; rw [cb, Bool.true_and]
      rw [z, z, z] at kont
      have sk := c_xSinks (G := G) o q v yb (p := a) (r := c) hk
      have h3 := skN_lt (m := m) (a := a) (c := c) (o := ho)
      rcases (show skN m a c ho = 0 ∨ skN m a c ho = 1 ∨ skN m a c ho = 2 by omega) with e | e | e
      · rw [e] at sk kont
        refine r_aload_0 rfl ?_
        refine r_iload_6 rfl ?_
        refine r_invvP_1 rfl (o) rfl rfl (by decide) (ic) ?_
        refine r_ifneT rfl (by decide) ?_
        refine r_aload_0 rfl ?_
        refine r_iload_1 rfl ?_
        refine r_iload_2 rfl ?_
        refine r_iload_6 rfl ?_
        refine r_invvP_3 rfl (o) rfl rfl (by decide) (sk) ?_
        refine r_istore_7 rfl ?_
        refine r_iload_3 rfl ?_
        refine r_iload_7 rfl ?_
        refine r_ifneF rfl (rfl) ?_
        refine r_push rfl ?_
        refine r_goto rfl ?_
        refine r_iadd rfl ?_
        refine r_istore_3 rfl ?_
        refine r_iload_4 rfl ?_
        refine r_iload_7 rfl ?_
        refine r_push rfl ?_
        refine r_icneT rfl (by decide) ?_
        refine r_push rfl ?_
        refine r_iadd rfl ?_
        refine r_istore_4 rfl ?_
        refine r_iload_5 rfl ?_
        refine r_iload_7 rfl ?_
        refine r_push rfl ?_
        refine r_icneT rfl (by decide) ?_
        refine r_push rfl ?_
        refine r_iadd rfl ?_
        refine r_istore_5 rfl ?_
        refine r_iinc_6 rfl ?_
        refine r_goto rfl ?_
        have k1 := kont (.int (nI 0))
        rw [← nI_add, ← nI_add, ← nI_add] at k1
        exact k1
      · rw [e] at sk kont
        refine r_aload_0 rfl ?_
        refine r_iload_6 rfl ?_
        refine r_invvP_1 rfl (o) rfl rfl (by decide) (ic) ?_
        refine r_ifneT rfl (by decide) ?_
        refine r_aload_0 rfl ?_
        refine r_iload_1 rfl ?_
        refine r_iload_2 rfl ?_
        refine r_iload_6 rfl ?_
        refine r_invvP_3 rfl (o) rfl rfl (by decide) (sk) ?_
        refine r_istore_7 rfl ?_
        refine r_iload_3 rfl ?_
        refine r_iload_7 rfl ?_
        refine r_ifneT rfl (by decide) ?_
        refine r_push rfl ?_
        refine r_iadd rfl ?_
        refine r_istore_3 rfl ?_
        refine r_iload_4 rfl ?_
        refine r_iload_7 rfl ?_
        refine r_push rfl ?_
        refine r_icneF rfl (rfl) ?_
        refine r_push rfl ?_
        refine r_goto rfl ?_
        refine r_iadd rfl ?_
        refine r_istore_4 rfl ?_
        refine r_iload_5 rfl ?_
        refine r_iload_7 rfl ?_
        refine r_push rfl ?_
        refine r_icneT rfl (by decide) ?_
        refine r_push rfl ?_
        refine r_iadd rfl ?_
        refine r_istore_5 rfl ?_
        refine r_iinc_6 rfl ?_
        refine r_goto rfl ?_
        have k1 := kont (.int (nI 1))
        rw [← nI_add, ← nI_add, ← nI_add] at k1
        exact k1
      · rw [e] at sk kont
        refine r_aload_0 rfl ?_
        refine r_iload_6 rfl ?_
        refine r_invvP_1 rfl (o) rfl rfl (by decide) (ic) ?_
        refine r_ifneT rfl (by decide) ?_
        refine r_aload_0 rfl ?_
        refine r_iload_1 rfl ?_
        refine r_iload_2 rfl ?_
        refine r_iload_6 rfl ?_
        refine r_invvP_3 rfl (o) rfl rfl (by decide) (sk) ?_
        refine r_istore_7 rfl ?_
        refine r_iload_3 rfl ?_
        refine r_iload_7 rfl ?_
        refine r_ifneT rfl (by decide) ?_
        refine r_push rfl ?_
        refine r_iadd rfl ?_
        refine r_istore_3 rfl ?_
        refine r_iload_4 rfl ?_
        refine r_iload_7 rfl ?_
        refine r_push rfl ?_
        refine r_icneT rfl (by decide) ?_
        refine r_push rfl ?_
        refine r_iadd rfl ?_
        refine r_istore_4 rfl ?_
        refine r_iload_5 rfl ?_
        refine r_iload_7 rfl ?_
        refine r_push rfl ?_
        refine r_icneF rfl (rfl) ?_
        refine r_push rfl ?_
        refine r_goto rfl ?_
        refine r_iadd rfl ?_
        refine r_istore_5 rfl ?_
        refine r_iinc_6 rfl ?_
        refine r_goto rfl ?_
        have k1 := kont (.int (nI 2))
        rw [← nI_add, ← nI_add, ← nI_add] at k1
        exact k1
  refine r_push rfl ?_
  refine r_istore_3 rfl ?_
  refine r_push rfl ?_
  refine r_istore_4 rfl ?_
  refine r_push rfl ?_
  refine r_istore_5 rfl ?_
  refine r_push rfl ?_
  refine r_istore_6 rfl ?_
  have lt0 : (-1 : Int32) < m 4 := by
    rw [e4]
    have : ∀ k, k ≤ 10 → (-1 : Int32) < nI k := by decide +kernel
    exact this _ hS
  refine r_iload_6 rfl ?_
  refine r_aload_0 rfl ?_
  refine r_getf rfl (by assumption) (by rfl) ?_
  refine r_getf rfl (by assumption) (by rfl) ?_
  refine r_icgeF rfl (lt0) ?_
  refine body none (-1) 0 0 0 _ (fun s es => by cases es) rfl (fun a7' => ?_)
  simp only [Nat.zero_add]
  refine wp_forH (nS m) (fun j L hh => ∃ a7, L = [.ref x, .int (nI a), .int (nI c), .int (nI ((if sdB m T n a c 0 none = true then 1 else 0) + smN (fun s => if sdB m T n a c 0 (some s) = true then 1 else 0) j)), .int (nI ((if sdB m T n a c 1 none = true then 1 else 0) + smN (fun s => if sdB m T n a c 1 (some s) = true then 1 else 0) j)), .int (nI ((if sdB m T n a c 2 none = true then 1 else 0) + smN (fun s => if sdB m T n a c 2 (some s) = true then 1 else 0) j)), .int (nI j), a7] ∧ hh = h) (fun j L hh hj hI kont => ?_) (fun L hh hI => ?_) _ _ ⟨a7', rfl, rfl⟩
  · obtain ⟨a7, rfl, rfl⟩ := hI
    refine r_iload_6 rfl ?_
    refine r_aload_0 rfl ?_
    refine r_getf rfl (by assumption) (by rfl) ?_
    refine r_getf rfl (by assumption) (by rfl) ?_
    refine r_icgeF rfl (by rw [e4]; exact nI_lt hj (by omega)) ?_
    refine body (some j) _ _ _ _ _ (fun s es => by cases es; exact hj) rfl (fun a7' => ?_)
    refine kont _ _ ⟨a7', ?_, rfl⟩
    rw [nI_1, Nat.add_assoc, Nat.add_assoc, Nat.add_assoc]
    rfl
  · obtain ⟨a7, rfl, rfl⟩ := hI
    have h0 := cnN_le hS (f := sdB m T n a c 0)
    have h1 := cnN_le hS (f := sdB m T n a c 1)
    have h2 := cnN_le hS (f := sdB m T n a c 2)
    have h3 := cn3 (m := m) (T := T) (n := n) (a := a) (c := c)
    have d0 : (if sdB m T n a c 0 none = true then 1 else 0) + smN (fun s => if sdB m T n a c 0 (some s) = true then 1 else 0) (nS m) = cnN m (sdB m T n a c 0) := rfl
    have d1 : (if sdB m T n a c 1 none = true then 1 else 0) + smN (fun s => if sdB m T n a c 1 (some s) = true then 1 else 0) (nS m) = cnN m (sdB m T n a c 1) := rfl
    have d2 : (if sdB m T n a c 2 none = true then 1 else 0) + smN (fun s => if sdB m T n a c 2 (some s) = true then 1 else 0) (nS m) = cnN m (sdB m T n a c 2) := rfl
    rw [d0, d1, d2]
    unfold pbO
    generalize cnN m (sdB m T n a c 0) = n0 at *
    generalize cnN m (sdB m T n a c 1) = n1 at *
    generalize cnN m (sdB m T n a c 2) = n2 at *
    rw [← h3]
    have es : nI n0 + nI n1 + nI n2 = nI (n0 + n1 + n2) := by rw [nI_add, nI_add]
    by_cases c2 : n0 + n1 + n2 < 2
    · rw [if_pos c2]
      refine r_iload_6 rfl ?_
      refine r_aload_0 rfl ?_
      refine r_getf rfl (by assumption) (by rfl) ?_
      refine r_getf rfl (by assumption) (by rfl) ?_
      refine r_icgeT rfl (by rw [e4]; exact Int32.le_refl _) ?_
      refine r_iload_3 rfl ?_
      refine r_iload_4 rfl ?_
      refine r_iadd rfl ?_
      refine r_iload_5 rfl ?_
      refine r_iadd rfl ?_
      refine r_push rfl ?_
      refine r_icgeF rfl (by rw [es]; exact nI_lt c2 (by decide)) ?_
      refine r_push rfl ?_
      refine r_goto rfl ?_
      refine r_iret rfl ?_
      rfl
    · rw [if_neg c2]
      refine r_iload_6 rfl ?_
      refine r_aload_0 rfl ?_
      refine r_getf rfl (by assumption) (by rfl) ?_
      refine r_getf rfl (by assumption) (by rfl) ?_
      refine r_icgeT rfl (by rw [e4]; exact Int32.le_refl _) ?_
      refine r_iload_3 rfl ?_
      refine r_iload_4 rfl ?_
      refine r_iadd rfl ?_
      refine r_iload_5 rfl ?_
      refine r_iadd rfl ?_
      refine r_push rfl ?_
      refine r_icgeT rfl (by rw [es]; exact nI_le (a := 2) (by omega) (by omega)) ?_
      refine r_iload_3 rfl ?_
      refine r_iload_4 rfl ?_
      refine r_iload_5 rfl ?_
      refine r_invP_2 rfl rfl (by decide) (c_max _ _) ?_
      rw [maxF_nI (by omega) (by omega)]
      refine r_invP_2 rfl rfl (by decide) (c_max _ _) ?_
      rw [maxF_nI (by omega) (by omega)]
      refine r_iret rfl ?_
      rfl
theorem c_xWeigh (hw : HW h) (o : h.1 x = some (.inr (0, xobj x hi))) (q : WA h (x + 1) m b l) (v : VR m) (yb : BY b m) (r : RS h (x + 46) f n len at_ bg ft dp) (hn : n ≤ 400) (tb : TB T) (tf : ∀ k, k < 400 → f k = sbI (T k)) : TU G 7 m_X1_weigh [.ref x] h x n f bg ft (qWeigh m T n) 18 := by
  have hS := v.ss.2
  have hP := v.pp.2
  have e3 := v.pp.1
  refine wc_in mt_X1_weigh rfl (L := [.ref x, am_un, am_un, am_un, am_un, am_un]) rfl ?_
  refine r_aload_0 rfl ?_
  refine r_invvS rfl rfl o rfl rfl rfl (by decide) (c_xWeighedT hw o q v r hn tb tf) (fun h1 z => ?_) (fun c h1 z => ?_)
  · obtain ⟨gd, r1, F1⟩ := z
    have o1 := F1.k o (show ¬ isR (x + 46) x by unfold isR; omega)
    have w1 := q.keep F1 (fun a z => by unfold isR at z; omega)
    have o0 := wa_o w1
    have e9 : qWeigh m T n = (0, wcV (wOut (pbO m T n) (nP m) (nP m))) := by unfold qWeigh; rw [if_neg (by rw [gd]; decide)]
    rw [e9]
    have hF : ∀ a c k, pbO m T n a c = some k → k ≤ 11 := fun a c k e => pbO_le hS e
    refine r_push rfl ?_
    refine r_istore_1 rfl ?_
    refine r_push rfl ?_
    refine r_istore_2 rfl ?_
    refine r_push rfl ?_
    refine r_istore_3 rfl ?_
    refine wp_forH (nP m) (fun j L hh => ∃ a4 a5, L = [.ref x, .int (wcV (wOut (pbO m T n) (nP m) j)), .int (wlV 1000000 (wOut (pbO m T n) (nP m) j)), .int (nI j), a4, a5] ∧ hh = h1) (fun j L hh hj hI kont => ?_) (fun L hh hI => ?_) _ _ ⟨_, _, rfl, rfl⟩
    · obtain ⟨a4, a5, rfl, rfl⟩ := hI
      have ok0 := wOut_ok hF hP j (by omega)
      generalize hst : wOut (pbO m T n) (nP m) j = st at *
      have nxt : wOut (pbO m T n) (nP m) (j + 1) = wIn (pbO m T n) j st (nP m - (j + 1)) := by rw [wOut, hst]
      rw [nxt] at kont
      refine r_iload_3 rfl ?_
      refine r_aload_0 rfl ?_
      refine r_getf rfl (by assumption) (by rfl) ?_
      refine r_getf rfl (by assumption) (by rfl) ?_
      refine r_icgeF rfl (by rw [e3]; exact nI_lt hj (by omega)) ?_
      refine r_iload_3 rfl ?_
      refine r_push rfl ?_
      refine r_iadd rfl ?_
      refine r_istore_4 rfl ?_
      rw [nI_1]
      refine wp_forH (nP m - (j + 1)) (fun k L h2 => ∃ a5, L = [.ref x, .int (wcV (wIn (pbO m T n) j st k)), .int (wlV 1000000 (wIn (pbO m T n) j st k)), .int (nI j), .int (nI (j + 1 + k)), a5] ∧ h2 = hh) (fun k L h2 hk hI kk => ?_) (fun L h2 hI => ?_) _ _ ⟨_, rfl, rfl⟩
      · obtain ⟨a5, rfl, rfl⟩ := hI
        have ok1 := wIn_ok (a := j) (P := nP m) ok0 hF hP k (by omega)
        have pb := c_xPartBy (G := G) o1 w1 v yb r1 tb tf gd j (j + 1 + k)
        have hf := hF j (j + 1 + k)
        have nx2 : wIn (pbO m T n) j st (k + 1) = wst (wIn (pbO m T n) j st k) (pbO m T n j (j + 1 + k)) (10 * j + (j + 1 + k)) := rfl
        have kk2 := kk
        rw [nx2] at kk2
        generalize wIn (pbO m T n) j st k = s1 at *
        generalize pbO m T n j (j + 1 + k) = p1 at *
        have code : (10 : Int32) * nI j + nI (j + 1 + k) = nI (10 * j + (j + 1 + k)) := by rw [show (10 : Int32) = nI 10 from rfl, nI_mul, nI_add]
        cases p1 with
        | none =>
          refine r_iload_4 rfl ?_
          refine r_aload_0 rfl ?_
          refine r_getf rfl (by assumption) (by rfl) ?_
          refine r_getf rfl (by assumption) (by rfl) ?_
          refine r_icgeF rfl (by rw [e3]; exact nI_lt (by omega) (by omega)) ?_
          refine r_aload_0 rfl ?_
          refine r_iload_3 rfl ?_
          refine r_iload_4 rfl ?_
          refine r_invvP_2 rfl (o1) rfl rfl (by decide) (pb) ?_
          refine r_istore_5 rfl ?_
          refine r_iload_5 rfl ?_
          refine r_push rfl ?_
          refine r_iceqT rfl (rfl) ?_
          refine r_iinc_4 rfl ?_
          refine r_goto rfl ?_
          rw [nI_1]
          exact kk2 _ _ ⟨_, rfl, rfl⟩
        | some p =>
          have hp := hf p rfl
          have nm : ¬ nonV (some p) = -1 := nI_neg1 (by omega)
          cases s1 with
          | none =>
            refine r_iload_4 rfl ?_
            refine r_aload_0 rfl ?_
            refine r_getf rfl (by assumption) (by rfl) ?_
            refine r_getf rfl (by assumption) (by rfl) ?_
            refine r_icgeF rfl (by rw [e3]; exact nI_lt (by omega) (by omega)) ?_
            refine r_aload_0 rfl ?_
            refine r_iload_3 rfl ?_
            refine r_iload_4 rfl ?_
            refine r_invvP_2 rfl (o1) rfl rfl (by decide) (pb) ?_
            refine r_istore_5 rfl ?_
            refine r_iload_5 rfl ?_
            refine r_push rfl ?_
            refine r_iceqF rfl (nm) ?_
            refine r_iload_5 rfl ?_
            refine r_iload_2 rfl ?_
            refine r_icltT rfl (show nI p < nI 1000000 from nI_lt (by omega) (by decide)) ?_
            refine r_push rfl ?_
            refine r_iload_3 rfl ?_
            refine r_imul rfl ?_
            refine r_iload_4 rfl ?_
            refine r_iadd rfl ?_
            rw [code]
            refine r_istore_1 rfl ?_
            refine r_iload_5 rfl ?_
            refine r_istore_2 rfl ?_
            refine r_iinc_4 rfl ?_
            refine r_goto rfl ?_
            rw [nI_1]
            exact kk2 _ _ ⟨_, rfl, rfl⟩
          | some z =>
            obtain ⟨u, d⟩ := z
            have hu : u ≤ 11 := ok1.1
            by_cases c : p < u
            · have ew : wst (some (u, d)) (some p) (10 * j + (j + 1 + k)) = some (p, 10 * j + (j + 1 + k)) := if_pos c
              rw [ew] at kk2
              refine r_iload_4 rfl ?_
              refine r_aload_0 rfl ?_
              refine r_getf rfl (by assumption) (by rfl) ?_
              refine r_getf rfl (by assumption) (by rfl) ?_
              refine r_icgeF rfl (by rw [e3]; exact nI_lt (by omega) (by omega)) ?_
              refine r_aload_0 rfl ?_
              refine r_iload_3 rfl ?_
              refine r_iload_4 rfl ?_
              refine r_invvP_2 rfl (o1) rfl rfl (by decide) (pb) ?_
              refine r_istore_5 rfl ?_
              refine r_iload_5 rfl ?_
              refine r_push rfl ?_
              refine r_iceqF rfl (nm) ?_
              refine r_iload_5 rfl ?_
              refine r_iload_2 rfl ?_
              refine r_icltT rfl (show nI p < nI u from nI_lt c (by omega)) ?_
              refine r_push rfl ?_
              refine r_iload_3 rfl ?_
              refine r_imul rfl ?_
              refine r_iload_4 rfl ?_
              refine r_iadd rfl ?_
              rw [code]
              refine r_istore_1 rfl ?_
              refine r_iload_5 rfl ?_
              refine r_istore_2 rfl ?_
              refine r_iinc_4 rfl ?_
              refine r_goto rfl ?_
              rw [nI_1]
              exact kk2 _ _ ⟨_, rfl, rfl⟩
            · have ew : wst (some (u, d)) (some p) (10 * j + (j + 1 + k)) = some (u, d) := if_neg c
              rw [ew] at kk2
              refine r_iload_4 rfl ?_
              refine r_aload_0 rfl ?_
              refine r_getf rfl (by assumption) (by rfl) ?_
              refine r_getf rfl (by assumption) (by rfl) ?_
              refine r_icgeF rfl (by rw [e3]; exact nI_lt (by omega) (by omega)) ?_
              refine r_aload_0 rfl ?_
              refine r_iload_3 rfl ?_
              refine r_iload_4 rfl ?_
              refine r_invvP_2 rfl (o1) rfl rfl (by decide) (pb) ?_
              refine r_istore_5 rfl ?_
              refine r_iload_5 rfl ?_
              refine r_push rfl ?_
              refine r_iceqF rfl (nm) ?_
              refine r_iload_5 rfl ?_
              refine r_iload_2 rfl ?_
              refine r_icltF rfl (show nI u ≤ nI p from nI_le (by omega) (by omega)) ?_
              refine r_goto rfl ?_
              refine r_iinc_4 rfl ?_
              refine r_goto rfl ?_
              rw [nI_1]
              exact kk2 _ _ ⟨_, rfl, rfl⟩
      · obtain ⟨a5, rfl, rfl⟩ := hI
        refine r_iload_4 rfl ?_
        refine r_aload_0 rfl ?_
        refine r_getf rfl (by assumption) (by rfl) ?_
        refine r_getf rfl (by assumption) (by rfl) ?_
        refine r_icgeT rfl (by rw [e3, show j + 1 + (nP m - (j + 1)) = nP m by omega]; exact Int32.le_refl _) ?_
        refine r_iinc_3 rfl ?_
        refine r_goto rfl ?_
        rw [nI_1]
        exact kont _ _ ⟨_, _, rfl, rfl⟩
    · obtain ⟨a4, a5, rfl, rfl⟩ := hI
      refine r_iload_3 rfl ?_
      refine r_aload_0 rfl ?_
      refine r_getf rfl (by assumption) (by rfl) ?_
      refine r_getf rfl (by assumption) (by rfl) ?_
      refine r_icgeT rfl (by rw [e3]; exact Int32.le_refl _) ?_
      refine r_iload_1 rfl ?_
      refine r_iret rfl ?_
      exact Or.inl ⟨_, _, rfl, rfl, rfl, r1, F1⟩
  · obtain ⟨gd, rfl, h2, r2, F2, rfl⟩ := z
    have e9 : qWeigh m T n = (1, 0) := by unfold qWeigh; rw [if_pos gd]
    rw [e9]
    exact Or.inr ⟨_, _, rfl, by decide, rfl, h2, r2, F2, rfl⟩
end
