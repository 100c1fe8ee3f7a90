/-! A TEXT is what its bytes say: none behind its end count -/
set_option maxRecDepth 100000
/-- like answers, that stay within the text -/
def PG {α : Type} (e : Nat) (x x' : RD α) : Prop := x = x' ∧ ∀ v a', x = .inr (v, a') → a' ≤ e
section
variable {α β : Type} {e : Nat}
theorem PG.l {z : Nat} : PG (α := α) e (.inl z) (.inl z) := ⟨rfl, fun v a' h => by cases h⟩
theorem PG.r {v : α} {a : Nat} (h : a ≤ e) : PG e (.inr (v, a)) (.inr (v, a)) := ⟨rfl, fun v' a' z => by cases z; exact h⟩
theorem PG.b {x x' : RD α} {f f' : α → Nat → RD β} (h : PG e x x') (k : ∀ v a, a ≤ e → PG e (f v a) (f' v a)) : PG e (rB x f) (rB x' f') := by
  obtain ⟨rfl, h2⟩ := h
  cases x with
  | inl z => exact PG.l
  | inr p =>
    obtain ⟨v, a⟩ := p
    exact k v a (h2 v a rfl)
theorem PG.i {c : Bool} {x x' y y' : RD α} (h : c = true → PG e x x') (k : c = false → PG e y y') : PG e (if c = true then x else y) (if c = true then x' else y') := by
  cases c with
  | true => exact h rfl
  | false => exact k rfl
end
section
variable {T T' : Nat → Int32} {e : Nat} (H : ∀ k, k < e → T k = T' k)
theorem scF_cg {p : Int32 → Bool} (H : ∀ k, k < e → T k = T' k) : ∀ n a, scF p T e n a = scF p T' e n a
  | 0, _ => rfl
  | n + 1, a => by
    rw [scF, scF, scF_cg H n]
    by_cases c : a < e
    · rw [H a c]
    · rw [if_neg (fun z => c z.1), if_neg (fun z => c z.1)]
theorem sk_cg (H : ∀ k, k < e → T k = T' k) (a : Nat) : skF T e a = skF T' e a := scF_cg H _ _
theorem we_cg (H : ∀ k, k < e → T k = T' k) (a : Nat) : weF T e a = weF T' e a := scF_cg H _ _
theorem fg_cg (H : ∀ k, k < e → T k = T' k) (a : Nat) : fgF T e a = fgF T' e a := scF_cg H _ _
theorem wb_cg (H : ∀ k, k < e → T k = T' k) (a : Nat) : wbF T e a = wbF T' e a := by unfold wbF; rw [sk_cg H, we_cg H]
theorem sub_cg (H : ∀ k, k < e → T k = T' k) : ∀ n b, b + n ≤ e → subF T b n = subF T' b n
  | 0, _, _ => rfl
  | n + 1, b, h => by rw [subF, subF, H b (by omega), sub_cg H n (b + 1) (by omega)]
theorem nu_cg (H : ∀ k, k < e → T k = T' k) : ∀ n b, b + n ≤ e → nuF T b n = nuF T' b n
  | 0, _, _ => rfl
  | n + 1, b, h => by rw [nuF, nuF, nu_cg H n b (by omega), H (b + n) (by omega)]
theorem wd_cg (H : ∀ k, k < e → T k = T' k) {a : Nat} (ha : a ≤ e) (w : List Int32) : wdF T e a w = wdF T' e a w := by
  unfold wdF
  rw [← sk_cg H, ← we_cg H]
  have h1 := sk_le T ha
  have h2 : weF T e (skF T e a) ≤ e := scan_le _ h1
  have h3 : skF T e a ≤ weF T e (skF T e a) := scan_ge _
  rw [sub_cg H _ _ (by omega)]
theorem sg_cg (H : ∀ k, k < e → T k = T' k) {a : Nat} {c : Int32} : sgF T e a c = sgF T' e a c := by
  unfold sgF
  rw [← sk_cg H]
  by_cases z : skF T e a < e
  · rw [H _ z]
  · rw [decide_eq_false z, Bool.false_and, Bool.false_and]
theorem isFg_cg (H : ∀ k, k < e → T k = T' k) {a : Nat} : isFgF T e a = isFgF T' e a := by
  unfold isFgF
  rw [← sk_cg H]
  by_cases z : skF T e a < e
  · rw [H _ z]
  · rw [decide_eq_false z, Bool.false_and, Bool.false_and]
theorem fact_cg (H : ∀ k, k < e → T k = T' k) {a : Nat} (ha : a ≤ e) : factF T e a = factF T' e a := by
  unfold factF
  simp only [wd_cg H ha]
theorem kind_cg (H : ∀ k, k < e → T k = T' k) {a : Nat} (ha : a ≤ e) : kindF T e a = kindF T' e a := by
  unfold kindF
  simp only [wd_cg H ha]
theorem num_pg (H : ∀ k, k < e → T k = T' k) {a : Nat} (ha : a ≤ e) {lo hi : Int32} : PG e (numF T e lo hi a) (numF T' e lo hi a) := by
  have h1 := sk_le T ha
  have h2 : fgF T e (skF T e a) ≤ e := scan_le _ h1
  have h3 : skF T e a ≤ fgF T e (skF T e a) := scan_ge _
  unfold numF
  rw [← sk_cg H, ← fg_cg H]
  unfold nbF
  rw [← nu_cg H _ _ (show skF T e a + (fgF T e (skF T e a) - skF T e a) ≤ e by omega)]
  split
  · exact PG.l
  · exact PG.r h2
theorem part_pg (H : ∀ k, k < e → T k = T' k) {a : Nat} (ha : a ≤ e) : PG e (partF T e a) (partF T' e a) := by
  unfold partF
  rw [← isFg_cg H, ← fact_cg H ha]
  refine PG.i (fun _ => (num_pg H ha).b (fun v a h => PG.r h)) (fun _ => ?_)
  cases factF T e a with
  | none => show PG e (.inl (skF T e a)) (.inl (skF T' e a)); rw [sk_cg H]; exact PG.l
  | some k => show PG e (.inr (_, wbF T e a)) (.inr (_, wbF T' e a)); rw [← wb_cg H]; exact PG.r (wb_le T ha)
theorem sg_lt {a : Nat} {c : Int32} (h : sgF T e a c = true) : skF T e a + 1 ≤ e := by
  unfold sgF at h
  rw [Bool.and_eq_true] at h
  exact of_decide_eq_true h.1
theorem su_pg (H : ∀ k, k < e → T k = T' k) : ∀ n (s : Sm) a, a ≤ e → PG e (suL T e n s a) (suL T' e n s a)
  | 0, _, _, _ => PG.l
  | n + 1, s, a, ha => by
    rw [suL, suL, ← sg_cg H, ← sk_cg H]
    refine PG.i (fun c => (part_pg H (sg_lt c)).b (fun t a h => su_pg H n _ a h)) (fun _ => PG.r (sk_le T ha))
theorem sum_pg (H : ∀ k, k < e → T k = T' k) {a : Nat} (ha : a ≤ e) : PG e (sumF T e a) (sumF T' e a) := (part_pg H ha).b (fun s a h => su_pg H _ _ a h)
theorem cmp_pg (H : ∀ k, k < e → T k = T' k) {a : Nat} (ha : a ≤ e) {s : Sm} : PG e (cmpF T e s a) (cmpF T' e s a) := by
  unfold cmpF
  rw [← sg_cg H, ← sg_cg H, ← sk_cg H]
  exact PG.i (fun c => (sum_pg H (sg_lt c)).b (fun t a h => PG.r h)) (fun _ => PG.i (fun c => (sum_pg H (sg_lt c)).b (fun t a h => PG.r h)) (fun _ => PG.l))
theorem plain_pg (H : ∀ k, k < e → T k = T' k) {a : Nat} (ha : a ≤ e) : PG e (plainF T e a) (plainF T' e a) := by
  unfold plainF
  rw [← wd_cg H ha, ← wd_cg H ha, ← wb_cg H]
  exact PG.i (fun _ => PG.r (wb_le T ha)) (fun _ => PG.i (fun _ => PG.r (wb_le T ha)) (fun _ => (sum_pg H ha).b (fun s a h => cmp_pg H h)))
theorem sq_pg (H : ∀ k, k < e → T k = T' k) {w : List Int32} {op : Bool → Bool → Bool} {f f' : Nat → RD Cd} (hf : ∀ a, a ≤ e → PG e (f a) (f' a)) : ∀ n (c : Cd) a, a ≤ e → PG e (sqL T e w op f n c a) (sqL T' e w op f' n c a)
  | 0, _, _, _ => PG.l
  | n + 1, c, a, ha => by
    rw [sqL, sqL, ← wd_cg H ha, ← wb_cg H, ← sk_cg H]
    exact PG.i (fun _ => (hf _ (wb_le T ha)).b (fun c' a h => sq_pg H hf n _ a h)) (fun _ => PG.r (sk_le T ha))
theorem and_pg (H : ∀ k, k < e → T k = T' k) {f f' : Nat → RD Cd} (hf : ∀ a, a ≤ e → PG e (f a) (f' a)) {a : Nat} (ha : a ≤ e) : PG e (andF T e f a) (andF T' e f' a) := (hf a ha).b (fun c a h => sq_pg H hf _ _ a h)
theorem or_pg (H : ∀ k, k < e → T k = T' k) {f f' : Nat → RD Cd} (hf : ∀ a, a ≤ e → PG e (f a) (f' a)) {a : Nat} (ha : a ≤ e) : PG e (orF T e f a) (orF T' e f' a) := (and_pg H hf ha).b (fun c a h => sq_pg H (fun a ha => and_pg H hf ha) _ _ a h)
theorem close_pg (H : ∀ k, k < e → T k = T' k) {c : Cd} {a : Nat} : PG e (closeF T e c a) (closeF T' e c a) := by
  unfold closeF
  rw [← sg_cg H, ← sk_cg H]
  exact PG.i (fun c => PG.r (sg_lt c)) (fun _ => PG.l)
theorem atomB_pg (H : ∀ k, k < e → T k = T' k) {a : Nat} (ha : a ≤ e) : PG e (atomB T e none a) (atomB T' e none a) := by
  unfold atomB
  rw [← sg_cg H, ← wd_cg H ha, ← sk_cg H]
  exact PG.i (fun _ => PG.l) (fun _ => PG.i (fun _ => PG.l) (fun _ => plain_pg H ha))
theorem atomS_pg (H : ∀ k, k < e → T k = T' k) {f f' : Nat → RD Cd} (hf : ∀ a, a ≤ e → PG e (f a) (f' a)) {a : Nat} (ha : a ≤ e) : PG e (atomB T e (some f) a) (atomB T' e (some f') a) := by
  unfold atomB
  rw [← sg_cg H, ← wd_cg H ha, ← sk_cg H, ← wb_cg H]
  exact PG.i (fun c => (or_pg H hf (sg_lt c)).b (fun c a h => close_pg H)) (fun _ => PG.i (fun _ => (hf _ (wb_le T ha)).b (fun c a h => PG.r h)) (fun _ => plain_pg H ha))
theorem atom_pg (H : ∀ k, k < e → T k = T' k) : ∀ D a, a ≤ e → PG e (atomF T e D a) (atomF T' e D a)
  | 0, a, ha => atomB_pg H ha
  | D + 1, a, ha => atomS_pg H (fun a ha => atom_pg H D a ha) ha
theorem when_pg (H : ∀ k, k < e → T k = T' k) {a : Nat} (ha : a ≤ e) : PG e (whenF T e a) (whenF T' e a) := by
  unfold whenF
  rw [← wd_cg H ha, ← wb_cg H, ← sk_cg H]
  exact PG.i (fun _ => or_pg H (fun a ha => atom_pg H 6 a ha) (wb_le T ha)) (fun _ => PG.r (sk_le T ha))
theorem line_pg (H : ∀ k, k < e → T k = T' k) {a : Nat} (ha : a ≤ e) : PG e (lineF T e a) (lineF T' e a) := by
  unfold lineF
  rw [← kind_cg H ha]
  cases kindF T e a with
  | none => show PG e (.inl (skF T e a)) (.inl (skF T' e a)); rw [sk_cg H]; exact PG.l
  | some k =>
    unfold linP
    rw [← wb_cg H]
    exact (num_pg H (wb_le T ha)).b (fun n a h => (when_pg H h).b (fun c a h => PG.r h))
theorem lnL_pg {α : Type} (H : ∀ k, k < e → T k = T' k) {most : Nat} {line line' : α → Nat → RD α} (hl : ∀ m a, a ≤ e → PG e (line m a) (line' m a)) : ∀ f n (m : α) a, a ≤ e → PG e (lnL T e most line f n m a) (lnL T' e most line' f n m a)
  | 0, _, _, _, _ => PG.l
  | f + 1, n, m, a, ha => by
    rw [lnL, lnL, ← sk_cg H]
    by_cases c : n = most
    · rw [if_pos c, if_pos c]; exact PG.l
    · rw [if_neg c, if_neg c]
      refine (hl m a ha).b (fun m a h => ?_)
      rw [← sk_cg H]
      have h1 := sk_le T h
      by_cases d : skF T e a = e
      · rw [if_pos d, if_pos d]; exact PG.r (Nat.le_refl _)
      · rw [if_neg d, if_neg d, ← H _ (by omega)]
        by_cases z : T (skF T e a) = 59
        · rw [if_pos z, if_pos z]
          exact lnL_pg H hl f (n + 1) m _ (by omega)
        · rw [if_neg z, if_neg z]; exact PG.l
theorem law_cg (H : ∀ k, k < e → T k = T' k) : lawF T e = lawF T' e := by
  unfold lawF linesF
  rw [← sk_cg H]
  by_cases c : skF T e 0 = e
  · rw [if_pos c, if_pos c]
  · rw [if_neg c, if_neg c]
    exact (lnL_pg H (fun m a ha => (line_pg H ha).b (fun l a h => PG.r h)) _ _ _ _ (sk_le T (Nat.zero_le _))).1
end
