/-! TEXT: what a text of the valley, of the law says, as plain functions of its bytes -/
set_option maxRecDepth 100000
def w_person : List Int32 := [112, 101, 114, 115, 111, 110]
def w_stone : List Int32 := [115, 116, 111, 110, 101]
def w_slope : List Int32 := [115, 108, 111, 112, 101]
def w_porch : List Int32 := [112, 111, 114, 99, 104]
def w_limit : List Int32 := [108, 105, 109, 105, 116]
def w_hour : List Int32 := [104, 111, 117, 114]
def w_back : List Int32 := [98, 97, 99, 107]
def w_at : List Int32 := [97, 116]
def w_goal : List Int32 := [103, 111, 97, 108]
def w_of : List Int32 := [111, 102]
def w_to : List Int32 := [116, 111]
def w_worn : List Int32 := [119, 111, 114, 110]
def w_by : List Int32 := [98, 121]
def w_not : List Int32 := [110, 111, 116]
def w_there : List Int32 := [116, 104, 101, 114, 101]
def w_light : List Int32 := [108, 105, 103, 104, 116]
def w_and : List Int32 := [97, 110, 100]
def w_or : List Int32 := [111, 114]
def w_if : List Int32 := [105, 102]
def w_who : List Int32 := [119, 104, 111]
def w_load : List Int32 := [108, 111, 97, 100]
def w_place : List Int32 := [112, 108, 97, 99, 101]
def w_tired : List Int32 := [116, 105, 114, 101, 100]
def w_tire : List Int32 := [116, 105, 114, 101]
def w_earn : List Int32 := [101, 97, 114, 110]
def w_hurt : List Int32 := [104, 117, 114, 116]
def isBl (x : Int32) : Bool := decide (x = 32)
def isLt (x : Int32) : Bool := inF x 97 122
def isFg (x : Int32) : Bool := inF x 48 57
def scF (p : Int32 → Bool) (T : Nat → Int32) (e : Nat) : Nat → Nat → Nat
  | 0, a => a
  | n + 1, a => if a < e ∧ p (T a) = true then scF p T e n (a + 1) else a
def scan (p : Int32 → Bool) (T : Nat → Int32) (e a : Nat) : Nat := scF p T e (e - a) a
section
variable {p : Int32 → Bool} {T : Nat → Int32} {e a : Nat}
theorem scan_step (h : a < e) (hp : p (T a) = true) : scan p T e a = scan p T e (a + 1) := by
  unfold scan
  rw [show e - a = (e - (a + 1)) + 1 by omega]
  exact if_pos ⟨h, hp⟩
theorem scan_stop (h : a < e → p (T a) = false) : scan p T e a = a := by
  unfold scan
  by_cases q : a < e
  · rw [show e - a = (e - (a + 1)) + 1 by omega]
    exact if_neg (fun z => by rw [h q] at z; exact absurd z.2 (by decide))
  · rw [show e - a = 0 by omega]; rfl
/-- a scan's induction: from the end back -/
theorem scan_ind {M : Nat → Prop} (h1 : ∀ a, a < e → p (T a) = true → M (a + 1) → M a) (h2 : ∀ a, (a < e → p (T a) = false) → M a) : ∀ a, M a := by
  have key : ∀ n a, e - a ≤ n → M a := by
    intro n
    induction n with
    | zero => intro a h; exact h2 a (fun q => absurd q (by omega))
    | succ n ih =>
      intro a h
      by_cases q : a < e
      · cases z : p (T a) with
        | true => exact h1 a q z (ih (a + 1) (by omega))
        | false => exact h2 a (fun _ => z)
      · exact h2 a (fun z => absurd z q)
  exact fun a => key (e - a) a (Nat.le_refl _)
theorem scan_ge : ∀ a, a ≤ scan p T e a := by
  refine scan_ind (p := p) (T := T) (e := e) (fun a h hp ih => ?_) (fun a h => ?_)
  · rw [scan_step h hp]; omega
  · rw [scan_stop h]; exact Nat.le_refl _
theorem scan_le : ∀ a, a ≤ e → scan p T e a ≤ e := by
  refine scan_ind (p := p) (T := T) (e := e) (fun a h hp ih q => ?_) (fun a h q => ?_)
  · rw [scan_step h hp]; exact ih (by omega)
  · rw [scan_stop h]; exact q
theorem scan_end : ∀ a, scan p T e a < e → p (T (scan p T e a)) = false := by
  refine scan_ind (p := p) (T := T) (e := e) (fun a h hp ih q => ?_) (fun a h q => ?_)
  · rw [scan_step h hp] at q ⊢; exact ih q
  · rw [scan_stop h] at q ⊢; exact h q
theorem scan_all : ∀ a k, a ≤ k → k < scan p T e a → p (T k) = true := by
  refine scan_ind (p := p) (T := T) (e := e) (fun a h hp ih k q1 q2 => ?_) (fun a h k q1 q2 => ?_)
  · rw [scan_step h hp] at q2
    by_cases z : k = a
    · rw [z]; exact hp
    · exact ih k (by omega) q2
  · rw [scan_stop h] at q2; omega
theorem scan_idem : scan p T e (scan p T e a) = scan p T e a := scan_stop (fun h => scan_end a h)
end
def skF (T : Nat → Int32) (e a : Nat) : Nat := scan isBl T e a
def weF (T : Nat → Int32) (e a : Nat) : Nat := scan isLt T e a
def fgF (T : Nat → Int32) (e a : Nat) : Nat := scan isFg T e a
def subF (T : Nat → Int32) (b : Nat) : Nat → List Int32
  | 0 => []
  | n + 1 => T b :: subF T (b + 1) n
/-- does the word w come next -/
def wdF (T : Nat → Int32) (e a : Nat) (w : List Int32) : Bool := decide (subF T (skF T e a) (weF T e (skF T e a) - skF T e a) = w)
/-- behind the word that comes next -/
def wbF (T : Nat → Int32) (e a : Nat) : Nat := weF T e (skF T e a)
/-- does the sign c come next -/
def sgF (T : Nat → Int32) (e a : Nat) (c : Int32) : Bool := decide (skF T e a < e) && decide (T (skF T e a) = c)
def nuF (T : Nat → Int32) (b : Nat) : Nat → Int32
  | 0 => 0
  | n + 1 => 10 * nuF T b n + T (b + n) - 48
/-- what is read: the fault's place, or a value and where to go on -/
abbrev RD (α : Type) : Type := Nat ⊕ (α × Nat)
def rB {α β : Type} (x : RD α) (f : α → Nat → RD β) : RD β := match x with
  | .inl q => .inl q
  | .inr (v, a) => f v a
def nbF (T : Nat → Int32) (e : Nat) (lo hi : Int32) (b k : Nat) : RD Int32 := if (k = b ∨ 3 < k - b) ∨ inF (nuF T b (k - b)) lo hi = false then .inl b else .inr (nuF T b (k - b), k)
def numF (T : Nat → Int32) (e : Nat) (lo hi : Int32) (a : Nat) : RD Int32 := nbF T e lo hi (skF T e a) (fgF T e (skF T e a))
def wantF (T : Nat → Int32) (e : Nat) (w : List Int32) (a : Nat) : RD Unit := if wdF T e a w = true then .inr ((), wbF T e a) else .inl (skF T e a)
def afterF (T : Nat → Int32) (e : Nat) (w : List Int32) (lo hi : Int32) (a : Nat) : RD Int32 := rB (wantF T e w a) fun _ a => numF T e lo hi a
/-! of the valley -/
def pm (m : Nat → Int32) (p : Int32) (bk wh gl pu : Int32) : Nat → Int32 := upd (upd (upd (upd (upd (upd (upd m (33 + 6 * p.toNatClampNeg) pu) (34 + 6 * p.toNatClampNeg) bk) (35 + 6 * p.toNatClampNeg) wh) (36 + 6 * p.toNatClampNeg) gl) (37 + 6 * p.toNatClampNeg) 0) (38 + 6 * p.toNatClampNeg) 0) 3 (p + 1)
def goalF (T : Nat → Int32) (e : Nat) (wh : Int32) (a : Nat) : RD Int32 := if wdF T e a w_goal = true then numF T e 0 11 (wbF T e a) else .inr (wh, skF T e a)
def personF (T : Nat → Int32) (e : Nat) (m : Nat → Int32) (b a : Nat) : RD (Nat → Int32) := if m 3 = 6 then .inl b else rB (numF T e 0 999 a) fun pu a => rB (afterF T e w_back 1 60 a) fun bk a => rB (afterF T e w_at 0 11 a) fun wh a => rB (goalF T e wh a) fun gl a => .inr (pm m (m 3) bk wh gl pu, a)
def adF (m : Nat → Int32) (who whom n worn : Int32) : Nat → Int32 := upd (upd (upd (upd (upd (upd (upd m (69 + 6 * (m 4).toNatClampNeg) who) (70 + 6 * (m 4).toNatClampNeg) whom) (71 + 6 * (m 4).toNatClampNeg) n) (72 + 6 * (m 4).toNatClampNeg) 0) (73 + 6 * (m 4).toNatClampNeg) worn) (74 + 6 * (m 4).toNatClampNeg) 0) 4 (m 4 + 1)
def otherF (T : Nat → Int32) (e : Nat) (m : Nat → Int32) (w : List Int32) (one : Int32) (a : Nat) : RD Int32 := rB (wantF T e w a) fun _ a => rB (numF T e 0 (m 3 - 1) a) fun x a' => if x = one then .inl (skF T e a) else .inr (x, a')
def wornByF (T : Nat → Int32) (e : Nat) (m : Nat → Int32) (who whom : Int32) (a : Nat) : RD Int32 := if wdF T e a w_worn = true then otherF T e m w_by whom (wbF T e a) else .inr (who, skF T e a)
def stoneF (T : Nat → Int32) (e : Nat) (m : Nat → Int32) (b a : Nat) : RD (Nat → Int32) := if m 4 = 10 then .inl b else rB (numF T e 1 40 a) fun n a => rB (afterF T e w_of 0 (m 3 - 1) a) fun who a => rB (otherF T e m w_to who a) fun whom a => rB (wornByF T e m who whom a) fun worn a => .inr (adF m who whom n worn, a)
def slopeF (T : Nat → Int32) (e : Nat) (m : Nat → Int32) (a : Nat) : RD (Nat → Int32) := rB (numF T e 0 11 a) fun p a => rB (numF T e 0 3 a) fun n a => .inr (upd m (9 + p.toNatClampNeg) n, a)
def porchF (T : Nat → Int32) (e : Nat) (m : Nat → Int32) (a : Nat) : RD (Nat → Int32) := rB (numF T e 0 11 a) fun p a => .inr (upd m (21 + p.toNatClampNeg) 1, a)
def setF (T : Nat → Int32) (e : Nat) (m : Nat → Int32) (k : Nat) (lo hi : Int32) (a : Nat) : RD (Nat → Int32) := rB (numF T e lo hi a) fun n a => .inr (upd m k n, a)
def vlineF (T : Nat → Int32) (e : Nat) (m : Nat → Int32) (a : Nat) : RD (Nat → Int32) :=
  if wdF T e a w_person = true then personF T e m (skF T e a) (wbF T e a) else if wdF T e a w_stone = true then stoneF T e m (skF T e a) (wbF T e a) else if wdF T e a w_slope = true then slopeF T e m (wbF T e a) else if wdF T e a w_porch = true then porchF T e m (wbF T e a)
  else if wdF T e a w_limit = true then setF T e m 6 1 99 (wbF T e a) else if wdF T e a w_hour = true then setF T e m 5 0 999 (wbF T e a) else .inl (skF T e a)
/-- lines, one behind another -/
def lnL {α : Type} (T : Nat → Int32) (e most : Nat) (line : α → Nat → RD α) : Nat → Nat → α → Nat → RD α
  | 0, _, _, _ => .inl 0
  | f + 1, n, m, a => if n = most then .inl (skF T e a) else rB (line m a) fun m a => if skF T e a = e then .inr (m, e) else if T (skF T e a) = 59 then lnL T e most line f (n + 1) m (skF T e a + 1) else .inl (skF T e a)
def linesF {α : Type} (T : Nat → Int32) (e most : Nat) (line : α → Nat → RD α) (m : α) : RD α := if skF T e 0 = e then .inr (m, e) else lnL T e most line (most + 1) 0 m (skF T e 0)
def valF (T : Nat → Int32) (e : Nat) (m : Nat → Int32) : RD (Nat → Int32) := linesF T e 14 (vlineF T e) m
/-! of the law: facts are 0 who 1 load 2 back 3 place 4 slope 5 tired 6 hour 7 there -/
abbrev Fc : Type := Nat → Int32
abbrev Cd : Type := Fc → Bool
abbrev Sm : Type := Fc → Int32
def factF (T : Nat → Int32) (e a : Nat) : Option Nat := if wdF T e a w_who = true then some 0 else if wdF T e a w_load = true then some 1 else if wdF T e a w_back = true then some 2 else if wdF T e a w_place = true then some 3 else if wdF T e a w_slope = true then some 4 else if wdF T e a w_tired = true then some 5 else if wdF T e a w_hour = true then some 6 else none
def isFgF (T : Nat → Int32) (e a : Nat) : Bool := decide (skF T e a < e) && isFg (T (skF T e a))
def facP (T : Nat → Int32) (e a : Nat) : Option Nat → RD Sm
  | some k => .inr (fun F => F k, wbF T e a)
  | none => .inl (skF T e a)
def partF (T : Nat → Int32) (e a : Nat) : RD Sm := if isFgF T e a = true then rB (numF T e 0 999 a) fun v a => .inr (fun _ => v, a) else facP T e a (factF T e a)
def suL (T : Nat → Int32) (e : Nat) : Nat → Sm → Nat → RD Sm
  | 0, _, _ => .inl 0
  | n + 1, s, a => if sgF T e a 43 = true then rB (partF T e (skF T e a + 1)) fun t a => suL T e n (fun F => s F + t F) a else .inr (s, skF T e a)
def sumF (T : Nat → Int32) (e a : Nat) : RD Sm := rB (partF T e a) fun s a => suL T e (e + 1) s a
def cmpF (T : Nat → Int32) (e : Nat) (s : Sm) (a : Nat) : RD Cd := if sgF T e a 60 = true then rB (sumF T e (skF T e a + 1)) fun t a => .inr (fun F => decide (s F < t F), a) else if sgF T e a 62 = true then rB (sumF T e (skF T e a + 1)) fun t a => .inr (fun F => decide (t F < s F), a) else .inl (skF T e a)
def plainF (T : Nat → Int32) (e a : Nat) : RD Cd := if wdF T e a w_there = true then .inr (fun F => decide (F 7 = 1), wbF T e a) else if wdF T e a w_light = true then .inr (fun F => decide (F 8 = 1), wbF T e a) else rB (sumF T e a) fun s a => cmpF T e s a
def sqL (T : Nat → Int32) (e : Nat) (w : List Int32) (op : Bool → Bool → Bool) (f : Nat → RD Cd) : Nat → Cd → Nat → RD Cd
  | 0, _, _ => .inl 0
  | n + 1, c, a => if wdF T e a w = true then rB (f (wbF T e a)) fun c' a => sqL T e w op f n (fun F => op (c F) (c' F)) a else .inr (c, skF T e a)
def andF (T : Nat → Int32) (e : Nat) (f : Nat → RD Cd) (a : Nat) : RD Cd := rB (f a) fun c a => sqL T e w_and and f (e + 1) c a
def orF (T : Nat → Int32) (e : Nat) (f : Nat → RD Cd) (a : Nat) : RD Cd := rB (andF T e f a) fun c a => sqL T e w_or or (andF T e f) (e + 1) c a
def closeF (T : Nat → Int32) (e : Nat) (c : Cd) (a : Nat) : RD Cd := if sgF T e a 41 = true then .inr (c, skF T e a + 1) else .inl (skF T e a)
def atomB (T : Nat → Int32) (e : Nat) (f : Option (Nat → RD Cd)) (a : Nat) : RD Cd := if sgF T e a 40 = true then (match f with
    | none => .inl (skF T e a)
    | some f => rB (orF T e f (skF T e a + 1)) fun c a => closeF T e c a)
  else if wdF T e a w_not = true then (match f with
    | none => .inl (skF T e a)
    | some f => rB (f (wbF T e a)) fun c a => .inr (fun F => !c F, a))
  else plainF T e a
/-- D deeper yet -/
def atomF (T : Nat → Int32) (e : Nat) : Nat → Nat → RD Cd
  | 0 => atomB T e none
  | D + 1 => atomB T e (some (atomF T e D))
abbrev Ln : Type := Nat × Int32 × Cd
def kindF (T : Nat → Int32) (e a : Nat) : Option Nat := if wdF T e a w_tire = true then some 0 else if wdF T e a w_earn = true then some 1 else if wdF T e a w_hurt = true then some 2 else none
def whenF (T : Nat → Int32) (e a : Nat) : RD Cd := if wdF T e a w_if = true then orF T e (atomF T e 6) (wbF T e a) else .inr (fun _ => true, skF T e a)
def linP (T : Nat → Int32) (e a : Nat) : Option Nat → RD Ln
  | none => .inl (skF T e a)
  | some k => rB (numF T e 0 99 (wbF T e a)) fun n a => rB (whenF T e a) fun c a => .inr ((k, n, c), a)
def lineF (T : Nat → Int32) (e a : Nat) : RD Ln := linP T e a (kindF T e a)
def llineF (T : Nat → Int32) (e : Nat) (ls : List Ln) (a : Nat) : RD (List Ln) := rB (lineF T e a) fun l a => .inr (ls ++ [l], a)
def lawF (T : Nat → Int32) (e : Nat) : RD (List Ln) := linesF T e 12 (llineF T e) []
/-- what a law says of kind k -/
def lsumF (k : Nat) (F : Fc) : List Ln → Int32
  | [] => 0
  | l :: r => (if l.1 = k ∧ l.2.2 F = true then l.2.1 else 0) + lsumF k F r
