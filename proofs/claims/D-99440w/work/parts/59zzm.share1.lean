/-! SHARE: what is shared, in plain words -/
set_option maxRecDepth 100000
def updN (f : Nat → Nat) (k v : Nat) : Nat → Nat := fun j => if j = k then v else f j
theorem updN_eq {f : Nat → Nat} {k v : Nat} : updN f k v k = v := if_pos rfl
theorem updN_ne {f : Nat → Nat} {j k v : Nat} (h : j ≠ k) : updN f k v j = f j := if_neg h
def omax (a : Nat) : Option Nat → Option Nat
  | none => none
  | some b => some (max a b)
/-- weights of sets -/
def WL (W : Nat → Nat) : Prop := W 0 = 0 ∧ (∀ s, W s ≤ 400) ∧ ∀ s z, s.testBit z = true → W s = W (s ^^^ 2 ^ z) + W (2 ^ z)
def mLp (W : Nat → Nat) (t : Nat → Option Nat) (s : Nat) : Nat → Nat → Option Nat → Option Nat
  | 0, _, b => b
  | n + 1, p, b => if p = 0 then b else mLp W t s n ((p - 1) &&& s) (omin b (omax (W p) (t (s ^^^ p))))
/-- the least greatest load of so many -/
def mF (W : Nat → Nat) : Nat → Nat → Option Nat
  | 0 => fun s => if s = 0 then some 0 else none
  | n + 1 => fun s => mLp W (mF W n) s s s (mF W n s)
def gLp (W : Nat → Nat) (r : Nat) (g : Nat → Bool) (s : Nat) : Nat → Nat → Bool
  | 0, _ => false
  | n + 1, p => if p = 0 then false else (decide (W p ≤ r) && g (s ^^^ p)) || gLp W r g s n ((p - 1) &&& s)
/-- whether a set can be given to so many -/
def cG (W R : Nat → Nat) : Nat → Nat → Bool
  | 0 => fun s => decide (s = 0)
  | n + 1 => fun s => cG W R n s || gLp W (R n) (cG W R n) s s s
def GB (W R : Nat → Nat) : Nat → Nat → Prop
  | 0 => fun s => s = 0
  | n + 1 => fun s => ∃ p, inS p s ∧ W p ≤ R n ∧ GB W R n (s ^^^ p)
theorem mF_z {W : Nat → Nat} {s : Nat} : mF W 0 s = if s = 0 then some 0 else none := rfl
theorem mF_s {W : Nat → Nat} {n s : Nat} : mF W (n + 1) s = mLp W (mF W n) s s s (mF W n s) := rfl
theorem cG_z {W R : Nat → Nat} {s : Nat} : cG W R 0 s = decide (s = 0) := rfl
theorem cG_s {W R : Nat → Nat} {n s : Nat} : cG W R (n + 1) s = (cG W R n s || gLp W (R n) (cG W R n) s s s) := rfl
theorem bit0 (x : Nat) : x.testBit 0 = decide (x % 2 = 1) := Nat.testBit_zero x
theorem inS_half {p s : Nat} (h : inS p s) : inS (p / 2) (s / 2) := by
  unfold inS
  rw [← Nat.and_div_two, h]
theorem inS_odd {p s : Nat} (h : inS p s) : p % 2 = 1 → s % 2 = 1 := by
  intro e
  have := inS_bit h 0
  rw [bit0, bit0] at this
  simpa using this (by simpa using e)
theorem and_odd (a c : Nat) : (a &&& c) % 2 = 1 ↔ (a % 2 = 1 ∧ c % 2 = 1) := by
  have : (a &&& c).testBit 0 = (a.testBit 0 && c.testBit 0) := Nat.testBit_and ..
  rw [bit0, bit0, bit0] at this
  by_cases h1 : (a &&& c) % 2 = 1 <;> by_cases h2 : a % 2 = 1 <;> by_cases h3 : c % 2 = 1 <;> simp_all
/-- the next set is the next one -/
theorem sub_next : ∀ p s q : Nat, inS p s → inS q s → q < p → q ≤ (p - 1) &&& s := by
  intro p
  induction p using Nat.strongRecOn with
  | ind p ih =>
    intro s q hp hq h
    have hp2 := inS_half hp
    have hq2 := inS_half hq
    have hpo := inS_odd hp
    have hqo := inS_odd hq
    have r2 : ((p - 1) &&& s) / 2 = (p - 1) / 2 &&& s / 2 := Nat.and_div_two ..
    have ro := and_odd (p - 1) s
    by_cases c : p % 2 = 1
    · rw [show (p - 1) / 2 = p / 2 by omega, hp2] at r2
      omega
    · have i := ih (p / 2) (by omega) (s / 2) (q / 2) hp2 hq2 (by omega)
      rw [show (p - 1) / 2 = p / 2 - 1 by omega] at r2
      have : (p - 1) % 2 = 1 := by omega
      by_cases d : q % 2 = 1
      · have := ro.mpr ⟨this, hqo d⟩
        omega
      · omega
theorem omin_as (a b c : Option Nat) : omin (omin a b) c = omin a (omin b c) := by
  cases a <;> cases b <;> cases c <;> simp [omin, Nat.min_assoc]
theorem omin_n (a : Option Nat) : omin a none = a := by cases a <;> rfl
theorem omin_c (a b : Option Nat) : omin a b = omin b a := by
  cases a <;> cases b <;> simp [omin, Nat.min_comm]
section
variable {W R : Nat → Nat} {t : Nat → Option Nat}
theorem mLp_out {s : Nat} {a : Option Nat} : ∀ (n p : Nat) (b : Option Nat), mLp W t s n p (omin a b) = omin a (mLp W t s n p b)
  | 0, _, _ => rfl
  | n + 1, p, b => by
    rw [mLp, mLp]
    by_cases z : p = 0
    · rw [if_pos z, if_pos z]
    · rw [if_neg z, if_neg z, omin_as, mLp_out n]
theorem omin_cs {a b : Option Nat} {v : Nat} (h : omin a b = some v) : a = some v ∨ b = some v := by
  cases a with
  | none => exact Or.inr h
  | some x =>
    cases b with
    | none => exact Or.inl h
    | some y =>
      have : min x y = v := Option.some.inj h
      rcases Nat.le_total x y with z | z
      · rw [Nat.min_eq_left z] at this; exact Or.inl (by rw [this])
      · rw [Nat.min_eq_right z] at this; exact Or.inr (by rw [this])
theorem omax_s {a : Nat} {b : Option Nat} {v : Nat} (h : omax a b = some v) : ∃ w, b = some w ∧ v = max a w := by
  cases b with
  | none => cases h
  | some w => exact ⟨w, rfl, (Option.some.inj h).symm⟩
theorem mLp_cs {s : Nat} : ∀ (n p : Nat) (b : Option Nat) (v : Nat), inS p s → mLp W t s n p b = some v → b = some v ∨ ∃ q w, inS q s ∧ 0 < q ∧ t (s ^^^ q) = some w ∧ v = max (W q) w
  | 0, _, _, _, _, h => Or.inl h
  | n + 1, p, b, v, hp, h => by
    rw [mLp] at h
    by_cases z : p = 0
    · rw [if_pos z] at h; exact Or.inl h
    · rw [if_neg z] at h
      rcases mLp_cs n _ _ v inS_next h with e | e
      · rcases omin_cs e with e | e
        · exact Or.inl e
        · obtain ⟨w, e1, e2⟩ := omax_s e
          exact Or.inr ⟨p, w, hp, by omega, e1, e2⟩
      · exact Or.inr e
theorem mLp_ge {s : Nat} : ∀ (n p : Nat) (b : Option Nat), (∃ v, b = some v) → ∃ v, mLp W t s n p b = some v
  | 0, _, _, h => h
  | n + 1, p, b, h => by
    rw [mLp]
    by_cases z : p = 0
    · rw [if_pos z]; exact h
    · rw [if_neg z]
      obtain ⟨v, rfl⟩ := h
      refine mLp_ge n _ _ ?_
      cases omax (W p) (t (s ^^^ p)) with
      | none => exact ⟨v, rfl⟩
      | some w => exact ⟨_, rfl⟩
theorem mF_le (wl : WL W) : ∀ (n s v : Nat), mF W n s = some v → v ≤ 400
  | 0, s, v, h => by
    rw [mF_z] at h
    split at h
    · cases h; omega
    · cases h
  | n + 1, s, v, h => by
    rw [mF_s] at h
    rcases mLp_cs s s _ v (Nat.and_self _) h with e | ⟨q, w, -, -, e1, rfl⟩
    · exact mF_le wl n s v e
    · have := mF_le wl n _ w e1
      have := wl.2.1 q
      omega
theorem mF_0 : ∀ n, mF W n 0 = some 0
  | 0 => rfl
  | n + 1 => mF_0 n
theorem mF_some {n s : Nat} (hn : 0 < n) : ∃ v, mF W n s = some v := by
  obtain ⟨n, rfl⟩ : ∃ k, n = k + 1 := ⟨n - 1, by omega⟩
  rw [mF_s]
  by_cases z : s = 0
  · subst z
    exact ⟨0, mF_0 n⟩
  · obtain ⟨s, rfl⟩ : ∃ k, s = k + 1 := ⟨s - 1, by omega⟩
    have e : mLp W (mF W n) (s + 1) (s + 1) (s + 1) (mF W n (s + 1)) = mLp W (mF W n) (s + 1) s (s + 1 - 1 &&& (s + 1)) (omin (mF W n (s + 1)) (omax (W (s + 1)) (mF W n ((s + 1) ^^^ (s + 1))))) := by
      rw [mLp, if_neg z]
    rw [e]
    refine mLp_ge s _ _ ?_
    rw [Nat.xor_self, mF_0]
    cases mF W n (s + 1) with
    | none => exact ⟨_, rfl⟩
    | some w => exact ⟨_, rfl⟩
theorem GB_mono {R' : Nat → Nat} : ∀ (n s : Nat), (∀ k, k < n → R k ≤ R' k) → GB W R n s → GB W R' n s
  | 0, _, _, h => h
  | n + 1, s, hr, ⟨p, h1, h2, h3⟩ => ⟨p, h1, Nat.le_trans h2 (hr n (by omega)), GB_mono n _ (fun k hk => hr k (by omega)) h3⟩
theorem inS_0 (s : Nat) : inS 0 s := Nat.zero_and s
theorem mF_GB (wl : WL W) : ∀ (n s v : Nat), mF W n s = some v → GB W (fun _ => v) n s
  | 0, s, v, h => by
    rw [mF_z] at h
    split at h
    · assumption
    · cases h
  | n + 1, s, v, h => by
    rw [mF_s] at h
    rcases mLp_cs s s _ v (Nat.and_self _) h with e | ⟨q, w, h1, -, e1, rfl⟩
    · refine ⟨0, inS_0 s, by rw [wl.1]; exact Nat.zero_le _, ?_⟩
      rw [Nat.xor_zero]
      exact mF_GB wl n s v e
    · exact ⟨q, h1, Nat.le_max_left .., GB_mono n _ (fun _ _ => Nat.le_max_right ..) (mF_GB wl n _ w e1)⟩
theorem gLp_iff {r : Nat} {g : Nat → Bool} {s : Nat} : ∀ (n p : Nat), p ≤ n → inS p s → (gLp W r g s n p = true ↔ ∃ q, inS q s ∧ 0 < q ∧ q ≤ p ∧ W q ≤ r ∧ g (s ^^^ q) = true)
  | 0, p, h, _ => by
    have : p = 0 := by omega
    subst this
    rw [gLp]
    exact ⟨fun z => (by cases z), fun ⟨q, _, h1, h2, _⟩ => by omega⟩
  | n + 1, p, h, hp => by
    rw [gLp]
    by_cases z : p = 0
    · rw [if_pos z]
      exact ⟨fun z => (by cases z), fun ⟨q, _, h1, h2, _⟩ => by omega⟩
    · have hlt : (p - 1) &&& s ≤ p - 1 := Nat.and_le_left
      rw [if_neg z, Bool.or_eq_true, gLp_iff n _ (by omega) inS_next, Bool.and_eq_true, decide_eq_true_iff]
      constructor
      · rintro (⟨h1, h2⟩ | ⟨q, h1, h2, h3, h4⟩)
        · exact ⟨p, hp, by omega, Nat.le_refl _, h1, h2⟩
        · exact ⟨q, h1, h2, by omega, h4⟩
      · rintro ⟨q, h1, h2, h3, h4, h5⟩
        by_cases e : q = p
        · subst e; exact Or.inl ⟨h4, h5⟩
        · exact Or.inr ⟨q, h1, h2, sub_next p s q hp h1 (by omega), h4, h5⟩
theorem cG_iff (wl : WL W) : ∀ (n s : Nat), cG W R n s = true ↔ GB W R n s
  | 0, s => by rw [cG_z]; exact decide_eq_true_iff
  | n + 1, s => by
    rw [cG_s, Bool.or_eq_true, cG_iff wl n s, gLp_iff s s (Nat.le_refl _) (Nat.and_self _)]
    constructor
    · rintro (h | ⟨q, h1, -, -, h4, h5⟩)
      · exact ⟨0, inS_0 s, by rw [wl.1]; exact Nat.zero_le _, by rw [Nat.xor_zero]; exact h⟩
      · exact ⟨q, h1, h4, (cG_iff wl n _).mp h5⟩
    · rintro ⟨q, h1, h2, h3⟩
      by_cases z : q = 0
      · subst z
        rw [Nat.xor_zero] at h3
        exact Or.inl h3
      · exact Or.inr ⟨q, h1, by omega, inS_le h1, h2, (cG_iff wl n _).mpr h3⟩
theorem pow_bit {z i : Nat} : (2 ^ z).testBit i = decide (z = i) := Nat.testBit_two_pow
theorem inS_of {p s : Nat} (h : ∀ i, p.testBit i = true → s.testBit i = true) : inS p s := by
  apply Nat.eq_of_testBit_eq
  intro i
  have := h i
  rw [Nat.testBit_and]
  revert this
  cases p.testBit i <;> cases s.testBit i <;> simp
/-- one more is given: to one of them -/
theorem GB_give (wl : WL W) {z : Nat} : ∀ (n s : Nat) (R : Nat → Nat), GB W R n s → s.testBit z = true → ∃ t, t < n ∧ W (2 ^ z) ≤ R t ∧ GB W (updN R t (R t - W (2 ^ z))) n (s ^^^ 2 ^ z)
  | 0, s, R, h, hz => by
    have : s = 0 := h
    subst this
    rw [Nat.zero_testBit] at hz; cases hz
  | n + 1, s, R, ⟨p, h1, h2, h3⟩, hz => by
    have hb := inS_bit h1
    by_cases c : p.testBit z = true
    · have e := wl.2.2 p z c
      refine ⟨n, by omega, by omega, p ^^^ 2 ^ z, inS_of fun i hi => ?_, by rw [updN_eq]; omega, ?_⟩
      · have := hb i
        rw [Nat.testBit_xor, pow_bit] at hi ⊢
        revert hi this
        by_cases d : z = i
        · subst d; rw [c]; simp
        · simp only [decide_eq_false d, Bool.xor_false]; exact fun a b => b a
      · have : s ^^^ 2 ^ z ^^^ (p ^^^ 2 ^ z) = s ^^^ p := by
          apply Nat.eq_of_testBit_eq
          intro i
          simp only [Nat.testBit_xor]
          cases s.testBit i <;> cases p.testBit i <;> cases (2 ^ z).testBit i <;> rfl
        rw [this]
        exact GB_mono n _ (fun k hk => by rw [updN_ne (by omega)]; exact Nat.le_refl _) h3
    · have c : p.testBit z = false := by simpa using c
      obtain ⟨t, t1, t2, t3⟩ := GB_give wl n (s ^^^ p) R h3 (by rw [Nat.testBit_xor, hz, c]; rfl)
      refine ⟨t, by omega, t2, p, inS_of fun i hi => ?_, by rw [updN_ne (by omega)]; exact h2, ?_⟩
      · rw [Nat.testBit_xor, hb i hi, pow_bit]
        by_cases d : z = i
        · subst d; rw [c] at hi; cases hi
        · simp [d]
      · have : s ^^^ 2 ^ z ^^^ p = s ^^^ p ^^^ 2 ^ z := by
          apply Nat.eq_of_testBit_eq
          intro i
          simp only [Nat.testBit_xor]
          cases s.testBit i <;> cases p.testBit i <;> cases (2 ^ z).testBit i <;> rfl
        rw [this]
        exact t3
end
/-- the first that is right -/
def tkL (ok : Nat → Bool) : Nat → Nat → Nat
  | 0, t => t
  | n + 1, t => if ok t = true then t else tkL ok n (t + 1)
theorem tkL_ok {ok : Nat → Bool} : ∀ (n t a : Nat), t ≤ a → a < t + n → ok a = true → ok (tkL ok n t) = true ∧ t ≤ tkL ok n t ∧ tkL ok n t ≤ a ∧ ∀ j, t ≤ j → j < tkL ok n t → ok j = false
  | 0, t, a, h1, h2, _ => by omega
  | n + 1, t, a, h1, h2, h3 => by
    rw [tkL]
    by_cases c : ok t = true
    · rw [if_pos c]
      exact ⟨c, Nat.le_refl _, h1, fun j h4 h5 => by omega⟩
    · rw [if_neg c]
      have : t ≠ a := fun e => c (e ▸ h3)
      obtain ⟨q1, q2, q3, q4⟩ := tkL_ok n (t + 1) a (by omega) (by omega) h3
      refine ⟨q1, by omega, q3, fun j h4 h5 => ?_⟩
      by_cases d : j = t
      · subst d; simpa using c
      · exact q4 j (by omega) h5
/-- stones from one on -/
def hiS (st j : Nat) : Nat := (st >>> j) <<< j
theorem hiS_bit {st j i : Nat} : (hiS st j).testBit i = (decide (j ≤ i) && st.testBit i) := by
  unfold hiS
  rw [Nat.testBit_shiftLeft, Nat.testBit_shiftRight]
  by_cases c : j ≤ i
  · rw [decide_eq_true c, show j + (i - j) = i by omega]
  · rw [decide_eq_false c]; rfl
theorem hiS_0 {st : Nat} : hiS st 0 = st := rfl
theorem hiS_T {st j : Nat} (h : st.testBit j = true) : hiS st (j + 1) = hiS st j ^^^ 2 ^ j := by
  apply Nat.eq_of_testBit_eq
  intro i
  rw [hiS_bit, Nat.testBit_xor, hiS_bit, pow_bit]
  by_cases d : j = i
  · subst d; rw [h]; simp
  · rw [decide_eq_false d, Bool.xor_false]
    by_cases e : j ≤ i
    · rw [decide_eq_true e, decide_eq_true (by omega)]
    · rw [decide_eq_false e, decide_eq_false (by omega)]
theorem hiS_F {st j : Nat} (h : st.testBit j = false) : hiS st (j + 1) = hiS st j := by
  apply Nat.eq_of_testBit_eq
  intro i
  rw [hiS_bit, hiS_bit]
  by_cases d : j = i
  · subst d; rw [h]; simp
  · by_cases e : j ≤ i
    · rw [decide_eq_true e, decide_eq_true (by omega)]
    · rw [decide_eq_false e, decide_eq_false (by omega)]
def okT (W R : Nat → Nat) (n w rem t : Nat) : Bool := decide (w ≤ R t) && cG W (updN R t (R t - w)) n rem
def gvT (W : Nat → Nat) (n st j : Nat) (R : Nat → Nat) : Nat := tkL (okT W R n (W (2 ^ j)) (hiS st (j + 1))) n 0
/-- what each can take yet, when the first so many stones have been given -/
def gvR (W : Nat → Nat) (n st v : Nat) : Nat → Nat → Nat
  | 0 => fun _ => v
  | j + 1 => if st.testBit j = true then updN (gvR W n st v j) (gvT W n st j (gvR W n st v j)) (gvR W n st v j (gvT W n st j (gvR W n st v j)) - W (2 ^ j)) else gvR W n st v j
theorem gv_inv {W : Nat → Nat} (wl : WL W) {n st v : Nat} (hv : mF W n st = some v) : ∀ j, GB W (gvR W n st v j) n (hiS st j)
  | 0 => mF_GB wl n st v hv
  | j + 1 => by
    have i := gv_inv wl hv j
    rw [gvR]
    cases c : st.testBit j with
    | false =>
      rw [if_neg (by decide), hiS_F c]
      exact i
    | true =>
      rw [if_pos rfl]
      have hb : (hiS st j).testBit j = true := by rw [hiS_bit, c]; simp
      obtain ⟨t, t1, t2, t3⟩ := GB_give wl n _ _ i hb
      rw [← hiS_T c] at t3
      have ok : okT W (gvR W n st v j) n (W (2 ^ j)) (hiS st (j + 1)) t = true := by
        unfold okT
        rw [Bool.and_eq_true]
        exact ⟨decide_eq_true t2, (cG_iff wl n _).mpr t3⟩
      have k := (tkL_ok n 0 t (Nat.zero_le _) (by omega) ok).1
      unfold okT at k
      rw [Bool.and_eq_true] at k
      exact (cG_iff wl n _).mp k.2
theorem gv_ok {W : Nat → Nat} (wl : WL W) {n st v : Nat} (hv : mF W n st = some v) {j : Nat} (c : st.testBit j = true) : okT W (gvR W n st v j) n (W (2 ^ j)) (hiS st (j + 1)) (gvT W n st j (gvR W n st v j)) = true ∧ gvT W n st j (gvR W n st v j) < n ∧ ∀ t, t < gvT W n st j (gvR W n st v j) → okT W (gvR W n st v j) n (W (2 ^ j)) (hiS st (j + 1)) t = false := by
  have i := gv_inv wl hv j
  have hb : (hiS st j).testBit j = true := by rw [hiS_bit, c]; simp
  obtain ⟨t, t1, t2, t3⟩ := GB_give wl n _ _ i hb
  rw [← hiS_T c] at t3
  have ok : okT W (gvR W n st v j) n (W (2 ^ j)) (hiS st (j + 1)) t = true := by
    unfold okT
    rw [Bool.and_eq_true]
    exact ⟨decide_eq_true t2, (cG_iff wl n _).mpr t3⟩
  obtain ⟨k1, k2, k3, k4⟩ := tkL_ok n 0 t (Nat.zero_le _) (by omega) ok
  exact ⟨k1, by unfold gvT; omega, fun a ha => k4 a (Nat.zero_le _) ha⟩
theorem gvR_le {W : Nat → Nat} {n st v : Nat} : ∀ j k, gvR W n st v j k ≤ v
  | 0, _ => Nat.le_refl _
  | j + 1, k => by
    rw [gvR]
    split
    · unfold updN
      split
      · exact Nat.le_trans (Nat.sub_le ..) (gvR_le j _)
      · exact gvR_le j k
    · exact gvR_le j k
/-- how many below -/
def cntB (b : Nat → Bool) : Nat → Nat
  | 0 => 0
  | j + 1 => cntB b j + (if b j = true then 1 else 0)
theorem cntB_le {b : Nat → Bool} : ∀ {i j : Nat}, i ≤ j → cntB b i ≤ cntB b j := by
  intro i j h
  induction j with
  | zero => rw [show i = 0 by omega]; exact Nat.le_refl _
  | succ j ih =>
    by_cases c : i = j + 1
    · subst c; exact Nat.le_refl _
    · rw [cntB]; have := ih (by omega); omega
theorem cntB_lt {b : Nat → Bool} {i j : Nat} (h : i < j) (hb : b i = true) : cntB b i < cntB b j := by
  have : cntB b (i + 1) ≤ cntB b j := cntB_le h
  rw [cntB, if_pos hb] at this
  omega
theorem cntB_n {b : Nat → Bool} : ∀ n, cntB b n ≤ n
  | 0 => Nat.le_refl _
  | n + 1 => by
    rw [cntB]
    have := cntB_n (b := b) n
    split <;> omega
/-- the one that has so many below -/
def selB (b : Nat → Bool) : Nat → Nat → Nat
  | 0, _ => 0
  | n + 1, i => if b n = true ∧ cntB b n = i then n else selB b n i
theorem selB_at {b : Nat → Bool} {z : Nat} (hb : b z = true) : ∀ n, z < n → selB b n (cntB b z) = z
  | 0, h => by omega
  | n + 1, h => by
    rw [selB]
    by_cases c : z = n
    · subst c; rw [if_pos ⟨hb, rfl⟩]
    · rw [if_neg, selB_at hb n (by omega)]
      intro q
      have := cntB_lt (b := b) (i := z) (j := n) (by omega) hb
      omega
theorem cntB_ex {b : Nat → Bool} : ∀ (n i : Nat), i < cntB b n → ∃ z, z < n ∧ b z = true ∧ cntB b z = i
  | 0, i, h => by rw [cntB] at h; omega
  | n + 1, i, h => by
    by_cases c : i < cntB b n
    · obtain ⟨z, h1, h2⟩ := cntB_ex n i c
      exact ⟨z, by omega, h2⟩
    · rw [cntB] at h
      by_cases d : b n = true
      · rw [if_pos d] at h
        exact ⟨n, by omega, d, by omega⟩
      · rw [if_neg d] at h; omega
/-- between two of like count nothing is given -/
theorem gv_same {W : Nat → Nat} {n st v a : Nat} : ∀ d, cntB st.testBit a = cntB st.testBit (a + d) → hiS st (a + d) = hiS st a ∧ gvR W n st v (a + d) = gvR W n st v a
  | 0, _ => ⟨rfl, rfl⟩
  | d + 1, h => by
    have h1 : cntB st.testBit a ≤ cntB st.testBit (a + d) := cntB_le (by omega)
    rw [show a + (d + 1) = a + d + 1 by omega, cntB] at h
    have c : st.testBit (a + d) = false := by
      cases e : st.testBit (a + d) with
      | false => rfl
      | true => rw [e, if_pos rfl] at h; omega
    rw [c, if_neg (by decide)] at h
    obtain ⟨i1, i2⟩ := gv_same (W := W) (n := n) (v := v) d (by omega)
    rw [show a + (d + 1) = a + d + 1 by omega, hiS_F c, gvR, if_neg (by rw [c]; decide)]
    exact ⟨i1, i2⟩
