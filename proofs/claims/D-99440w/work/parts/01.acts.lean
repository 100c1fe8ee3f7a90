/-! THE ABSTRACT MACHINE: a step of the bytecode over a heap that is a function of the address. A heap: what lies where, the next address, the slots that were made. -/
set_option maxRecDepth 100000
abbrev am_C : Type := (Nat × vp_A) ⊕ (Nat × List Value)
abbrev am_H : Type := (Nat → Option am_C) × Nat × Nat
abbrev am_G : Type := Nat → Value
abbrev am_K : Type := Nat × List Value × Nat × List Value × List Value × am_H
abbrev am_R : Type := (Nat × List Value × List Value × am_H) ⊕ am_K ⊕ (Option Value × am_H) ⊕ (Nat × am_H)
abbrev am_A : Type := am_G → List Value → List Value → am_H → Option am_R
abbrev am_M : Type := (Nat → Option am_A) × Nat × List (Nat × Nat × Nat × Nat × Nat)
abbrev am_O : Type := (Option Value × am_H) ⊕ (Nat × am_H)
def am_set (h : am_H) (a : Nat) (e : am_C) : am_H := (fun b => if b = a then some e else h.1 b, h.2.1, h.2.2)
def am_new (h : am_H) (e : am_C) (n : Nat) : am_H := (fun b => if b = h.2.1 then some e else h.1 b, h.2.1 + 1, h.2.2 + n)
/-- a cell that is made and not seen -/
def am_skip (h : am_H) (n : Nat) : am_H := (h.1, h.2.1 + 1, h.2.2 + n)
def am_un : Value := .retAddr 0
abbrev am_c (pc : Nat) (L st : List Value) (h : am_H) : Option am_R := some (.inl (pc, L, st, h))
def am_ix : List Value → Nat → Option Value
  | [], _ => none
  | v :: _, 0 => some v
  | _ :: r, i + 1 => am_ix r i
def am_st : List Value → Nat → Value → List Value
  | [], _, _ => []
  | _ :: r, 0, v => v :: r
  | x :: r, i + 1, v => x :: am_st r i v
/-- n values off the stack, the first pushed first -/
def am_pop : Nat → List Value → List Value → Option (List Value × List Value)
  | 0, acc, st => some (acc, st)
  | _ + 1, _, [] => none
  | n + 1, acc, v :: st => am_pop n (v :: acc) st
/-- class (or array type) c' where c is asked: c itself, or c's read-only kind (a cell that was there before the law) -/
def am_cc (c' c : Nat) : Bool := Nat.beq c' c || Nat.beq c' (c + 100)
/-- what may be cloned: a new array, an old one of objects -/
def am_cq (t' t : Nat) : Bool := Nat.blt t 7 && (Nat.beq t' t || (Nat.ble 4 t && Nat.beq t' (t + 100)))
/-- the kind of an array by its number, where it is new, or was there before -/
def am_z (t : Nat) : Nat := if t < 100 then t else t - 100
/-- words of a stack -/
def am_wd : List Value → Nat
  | [] => 0
  | v :: r => v.category + am_wd r
def am_dp (c : Nat) : List (Nat × Nat) → Option Nat
  | [] => none
  | (d, k) :: r => cond (am_cc c d) (some k) (am_dp c r)
def am_in (c : Nat) : List Nat → Bool
  | [] => false
  | d :: r => cond (am_cc c d) true (am_in c r)
def am_lf (k : Nat) (a : am_A) : Nat → Option am_A := fun pc => cond (Nat.beq pc k) (some a) none
def am_nd (k : Nat) (x y : Nat → Option am_A) : Nat → Option am_A := fun pc => cond (Nat.blt pc k) (x pc) (y pc)
def a_push (v : Value) (nx : Nat) : am_A := fun _ L st h => am_c nx L (v :: st) h
def a_glob (g : Nat) (nx : Nat) : am_A := fun G L st h => am_c nx L (G g :: st) h
def a_iload (i nx : Nat) : am_A := fun _ L st h => match am_ix L i with
  | some (.int v) => am_c nx L (.int v :: st) h
  | _ => none
def a_aload (i nx : Nat) : am_A := fun _ L st h => match am_ix L i with
  | some (.ref v) => am_c nx L (.ref v :: st) h
  | some .null => am_c nx L (.null :: st) h
  | _ => none
def a_istore (i nx : Nat) : am_A := fun _ L st h => match st with
  | .int v :: st => am_c nx (am_st L i (.int v)) st h
  | _ => none
def a_astore (i nx : Nat) : am_A := fun _ L st h => match st with
  | .ref v :: st => am_c nx (am_st L i (.ref v)) st h
  | .null :: st => am_c nx (am_st L i .null) st h
  | _ => none
def a_iinc (i : Nat) (c : Int32) (nx : Nat) : am_A := fun _ L st h => match am_ix L i with
  | some (.int v) => am_c nx (am_st L i (.int (v + c))) st h
  | _ => none
def am_1 (v : Value) : Bool := match v with
  | .int _ => true
  | .ref _ => true
  | .null => true
  | _ => false
def am_1s : List Value → Bool
  | [] => true
  | v :: r => am_1 v && am_1s r
def a_dup (nx : Nat) : am_A := fun _ L st h => match st with
  | v :: st => cond (am_1 v) (am_c nx L (v :: v :: st) h) none
  | _ => none
def a_pop (nx : Nat) : am_A := fun _ L st h => match st with
  | v :: st => cond (am_1 v) (am_c nx L st h) none
  | _ => none
def a_oinit (nx : Nat) : am_A := fun _ L st h => match st with
  | .ref _ :: st => cond (Nat.ble (am_wd st) 8) (am_c nx L st h) none
  | _ => none
def a_dup2 (nx : Nat) : am_A := fun _ L st h => match st with
  | v :: w :: st => cond (am_1 v && am_1 w) (am_c nx L (v :: w :: v :: w :: st) h) none
  | _ => none
def a_dup_x1 (nx : Nat) : am_A := fun _ L st h => match st with
  | v :: w :: st => cond (am_1 v && am_1 w) (am_c nx L (v :: w :: v :: st) h) none
  | _ => none
def a_iadd (nx : Nat) : am_A := fun _ L st h => match st with
  | .int y :: .int x :: st => am_c nx L (.int (x + y) :: st) h
  | _ => none
def a_isub (nx : Nat) : am_A := fun _ L st h => match st with
  | .int y :: .int x :: st => am_c nx L (.int (x - y) :: st) h
  | _ => none
def a_imul (nx : Nat) : am_A := fun _ L st h => match st with
  | .int y :: .int x :: st => am_c nx L (.int (x * y) :: st) h
  | _ => none
def a_iand (nx : Nat) : am_A := fun _ L st h => match st with
  | .int y :: .int x :: st => am_c nx L (.int (x &&& y) :: st) h
  | _ => none
def a_ior (nx : Nat) : am_A := fun _ L st h => match st with
  | .int y :: .int x :: st => am_c nx L (.int (x ||| y) :: st) h
  | _ => none
def a_ixor (nx : Nat) : am_A := fun _ L st h => match st with
  | .int y :: .int x :: st => am_c nx L (.int (x ^^^ y) :: st) h
  | _ => none
def a_ishl (nx : Nat) : am_A := fun _ L st h => match st with
  | .int y :: .int x :: st => am_c nx L (.int (x <<< (y &&& 31)) :: st) h
  | _ => none
def a_ishr (nx : Nat) : am_A := fun _ L st h => match st with
  | .int y :: .int x :: st => am_c nx L (.int (x >>> (y &&& 31)) :: st) h
  | _ => none
def a_iushr (nx : Nat) : am_A := fun _ L st h => match st with
  | .int y :: .int x :: st => am_c nx L (.int ((x.toUInt32 >>> (y.toUInt32 &&& Int32.toUInt32 31)).toInt32) :: st) h
  | _ => none
def a_idiv (nx : Nat) : am_A := fun _ L st h => match st with
  | .int y :: .int x :: st => if y = 0 then none else am_c nx L (.int (x / y) :: st) h
  | _ => none
def a_irem (nx : Nat) : am_A := fun _ L st h => match st with
  | .int y :: .int x :: st => if y = 0 then none else am_c nx L (.int (x - x / y * y) :: st) h
  | _ => none
def a_ineg (nx : Nat) : am_A := fun _ L st h => match st with
  | .int x :: st => am_c nx L (.int (-x) :: st) h
  | _ => none
def a_i2l (nx : Nat) : am_A := fun _ L st h => match st with
  | .int x :: st => am_c nx L (.long x.toInt64 :: st) h
  | _ => none
def a_i2b (nx : Nat) : am_A := fun _ L st h => match st with
  | .int x :: st => am_c nx L (.int x.toInt8.toInt32 :: st) h
  | _ => none
def a_i2c (nx : Nat) : am_A := fun _ L st h => match st with
  | .int x :: st => am_c nx L (.int (x.toUInt32 % 65536).toInt32 :: st) h
  | _ => none
def a_lcmp (nx : Nat) : am_A := fun _ L st h => match st with
  | .long y :: .long x :: st => am_c nx L (.int (lg_cmp x y) :: st) h
  | _ => none
def a_ifeq (tg nx : Nat) : am_A := fun _ L st h => match st with
  | .int x :: st => if x = 0 then am_c tg L st h else am_c nx L st h
  | _ => none
def a_iceq (tg nx : Nat) : am_A := fun _ L st h => match st with
  | .int y :: .int x :: st => if x = y then am_c tg L st h else am_c nx L st h
  | _ => none
def a_ifne (tg nx : Nat) : am_A := fun _ L st h => match st with
  | .int x :: st => if x ≠ 0 then am_c tg L st h else am_c nx L st h
  | _ => none
def a_icne (tg nx : Nat) : am_A := fun _ L st h => match st with
  | .int y :: .int x :: st => if x ≠ y then am_c tg L st h else am_c nx L st h
  | _ => none
def a_iflt (tg nx : Nat) : am_A := fun _ L st h => match st with
  | .int x :: st => if x < 0 then am_c tg L st h else am_c nx L st h
  | _ => none
def a_iclt (tg nx : Nat) : am_A := fun _ L st h => match st with
  | .int y :: .int x :: st => if x < y then am_c tg L st h else am_c nx L st h
  | _ => none
def a_ifge (tg nx : Nat) : am_A := fun _ L st h => match st with
  | .int x :: st => if 0 ≤ x then am_c tg L st h else am_c nx L st h
  | _ => none
def a_icge (tg nx : Nat) : am_A := fun _ L st h => match st with
  | .int y :: .int x :: st => if y ≤ x then am_c tg L st h else am_c nx L st h
  | _ => none
def a_ifgt (tg nx : Nat) : am_A := fun _ L st h => match st with
  | .int x :: st => if 0 < x then am_c tg L st h else am_c nx L st h
  | _ => none
def a_icgt (tg nx : Nat) : am_A := fun _ L st h => match st with
  | .int y :: .int x :: st => if y < x then am_c tg L st h else am_c nx L st h
  | _ => none
def a_ifle (tg nx : Nat) : am_A := fun _ L st h => match st with
  | .int x :: st => if x ≤ 0 then am_c tg L st h else am_c nx L st h
  | _ => none
def a_icle (tg nx : Nat) : am_A := fun _ L st h => match st with
  | .int y :: .int x :: st => if x ≤ y then am_c tg L st h else am_c nx L st h
  | _ => none
/-- are two references one: none where a value is none -/
def am_same (v w : Value) : Option Bool := match v, w with
  | .ref a, .ref b => some (Nat.beq a b)
  | .null, .ref _ => some false
  | .ref _, .null => some false
  | .null, .null => some true
  | _, _ => none
def a_aceq (tg nx : Nat) : am_A := fun _ L st h => match st with
  | w :: v :: st => match am_same v w with
    | some true => am_c tg L st h
    | some false => am_c nx L st h
    | none => none
  | _ => none
def a_acne (tg nx : Nat) : am_A := fun _ L st h => match st with
  | w :: v :: st => match am_same v w with
    | some true => am_c nx L st h
    | some false => am_c tg L st h
    | none => none
  | _ => none
def a_ifnull (tg nx : Nat) : am_A := fun _ L st h => match st with
  | .null :: st => am_c tg L st h
  | .ref _ :: st => am_c nx L st h
  | _ => none
def a_ifnonnull (tg nx : Nat) : am_A := fun _ L st h => match st with
  | .null :: st => am_c nx L st h
  | .ref _ :: st => am_c tg L st h
  | _ => none
def a_goto (tg : Nat) : am_A := fun _ L st h => am_c tg L st h
def am_sw (x : Int32) (d : Nat) : List (Int32 × Nat) → Nat
  | [] => d
  | (k, t) :: r => if x = k then t else am_sw x d r
def a_sw (ks : List (Int32 × Nat)) (d : Nat) : am_A := fun _ L st h => match st with
  | .int x :: st => am_c (am_sw x d ks) L st h
  | _ => none
def a_getf (c i nx : Nat) : am_A := fun _ L st h => match st with
  | .ref a :: st => match h.1 a with
    | some (.inr (c', fs)) => cond (am_cc c' c) (match am_ix fs i with
      | some v => am_c nx L (v :: st) h
      | none => none) none
    | _ => none
  | _ => none
def am_puts (c i nx : Nat) (L st : List Value) (h : am_H) (v : Value) : Option am_R := match st with
  | .ref a :: st => match h.1 a with
    | some (.inr (c', fs)) => cond (Nat.beq c' c && Nat.blt i fs.length) (am_c nx L st (am_set h a (.inr (c, am_st fs i v)))) none
    | _ => none
  | _ => none
def a_puti (c i nx : Nat) : am_A := fun _ L st h => match st with
  | .int x :: st => am_puts c i nx L st h (.int x)
  | _ => none
def a_putz (c i nx : Nat) : am_A := fun _ L st h => match st with
  | .int x :: st => if x = 0 ∨ x = 1 then am_puts c i nx L st h (.int x) else none
  | _ => none
def a_putb (c i nx : Nat) : am_A := fun _ L st h => match st with
  | .int x :: st => if x = 0 ∨ x = 1 then am_puts c i nx L st h (.int x) else none
  | _ => none
def a_puta (c i nx : Nat) : am_A := fun _ L st h => match st with
  | .ref x :: st => am_puts c i nx L st h (.ref x)
  | .null :: st => am_puts c i nx L st h .null
  | _ => none
def a_new (c : Nat) (fs : List Value) (nx : Nat) : am_A := fun _ L st h => am_c nx L (.ref h.2.1 :: st) (am_new h (.inr (c, fs)) fs.length)
def am_mk (nx : Nat) (x : Nat → am_C) : am_A := fun _ L st h => match st with
  | .int n :: st => if n < 0 ∨ 1000000 < n then none else am_c nx L (.ref h.2.1 :: st) (am_new h (x n.toNatClampNeg) n.toNatClampNeg)
  | _ => none
def a_newi (t nx : Nat) : am_A := am_mk nx (fun n => .inl (t, n, .inl (fun _ => 0)))
def a_newl (nx : Nat) : am_A := am_mk nx (fun n => .inl (3, n, .inr (.inl (fun _ => 0))))
def a_newr (t nx : Nat) : am_A := am_mk nx (fun n => .inl (t, n, .inr (.inr (.inr (.inr (fun _ => none))))))
def a_iald (nx : Nat) : am_A := fun _ L st h => match st with
  | .int i :: .ref a :: st => match h.1 a with
    | some (.inl (t, n, .inl f)) => if i < 0 ∨ n ≤ i.toNatClampNeg then none else cond (am_cc t 0) (am_c nx L (.int (f i.toNatClampNeg) :: st) h) none
    | _ => none
  | _ => none
def a_bald (nx : Nat) : am_A := fun _ L st h => match st with
  | .int i :: .ref a :: st => match h.1 a with
    | some (.inl (t, n, .inl f)) => if i < 0 ∨ n ≤ i.toNatClampNeg then none else cond (Nat.beq t 1 || am_cc t 2) (am_c nx L (.int (f i.toNatClampNeg) :: st) h) none
    | _ => none
  | _ => none
def a_lald (nx : Nat) : am_A := fun _ L st h => match st with
  | .int i :: .ref a :: st => match h.1 a with
    | some (.inl (3, n, .inr (.inl f))) => if i < 0 ∨ n ≤ i.toNatClampNeg then none else am_c nx L (.long (f i.toNatClampNeg) :: st) h
    | _ => none
  | _ => none
def a_aald (nx : Nat) : am_A := fun _ L st h => match st with
  | .int i :: .ref a :: st => match h.1 a with
    | some (.inl (t, n, .inr (.inr (.inr (.inr f))))) => if i < 0 ∨ n ≤ i.toNatClampNeg then none else cond (Nat.blt 3 (am_z t)) (am_c nx L (va_rf (f i.toNatClampNeg) :: st) h) none
    | _ => none
  | _ => none
def a_iast (nx : Nat) : am_A := fun _ L st h => match st with
  | .int x :: .int i :: .ref a :: st => match h.1 a with
    | some (.inl (0, n, .inl f)) => if i < 0 ∨ n ≤ i.toNatClampNeg then none else am_c nx L st (am_set h a (.inl (0, n, .inl (upd f i.toNatClampNeg x))))
    | _ => none
  | _ => none
def a_bast (nx : Nat) : am_A := fun _ L st h => match st with
  | .int x :: .int i :: .ref a :: st => match h.1 a with
    | some (.inl (1, n, .inl f)) => if i < 0 ∨ n ≤ i.toNatClampNeg then none else am_c nx L st (am_set h a (.inl (1, n, .inl (upd f i.toNatClampNeg (vp_nar .boolean x)))))
    | some (.inl (2, n, .inl f)) => if i < 0 ∨ n ≤ i.toNatClampNeg then none else am_c nx L st (am_set h a (.inl (2, n, .inl (upd f i.toNatClampNeg (vp_nar .byte x)))))
    | _ => none
  | _ => none
def a_last (nx : Nat) : am_A := fun _ L st h => match st with
  | .long x :: .int i :: .ref a :: st => match h.1 a with
    | some (.inl (3, n, .inr (.inl f))) => if i < 0 ∨ n ≤ i.toNatClampNeg then none else am_c nx L st (am_set h a (.inl (3, n, .inr (.inl (vp_updL f i.toNatClampNeg x)))))
    | _ => none
  | _ => none
/-- what may be put into an array of objects: null, or an object that is known -/
def am_el (h : am_H) (v : Value) : Option (Option Nat) := match v with
  | .null => some none
  | .ref b => match h.1 b with
    | some (.inr _) => some (some b)
    | _ => none
  | _ => none
def a_aast (nx : Nat) : am_A := fun _ L st h => match st with
  | v :: .int i :: .ref a :: st => match h.1 a with
    | some (.inl (4, n, .inr (.inr (.inr (.inr f))))) => if i < 0 ∨ n ≤ i.toNatClampNeg then none else match am_el h v with
      | some w => am_c nx L st (am_set h a (.inl (4, n, .inr (.inr (.inr (.inr (va_up f i.toNatClampNeg w)))))))
      | none => none
    | _ => none
  | _ => none
def a_arraylength (nx : Nat) : am_A := fun _ L st h => match st with
  | .ref a :: st => match h.1 a with
    | some (.inl (_, n, _)) => am_c nx L (.int (Int32.ofNat n) :: st) h
    | _ => none
  | _ => none
def a_cast (cs : List Nat) (nx : Nat) : am_A := fun _ L st h => match st with
  | .ref a :: st => match h.1 a with
    | some (.inr (c, _)) => cond (am_in c cs) (am_c nx L (.ref a :: st) h) none
    | _ => none
  | _ => none
def a_casta (t nx : Nat) : am_A := fun _ L st h => match st with
  | .ref a :: st => match h.1 a with
    | some (.inl (t', _)) => cond (Nat.beq t' t && Nat.blt t 7) (am_c nx L (.ref a :: st) h) none
    | _ => none
  | _ => none
def a_inst (c nx : Nat) : am_A := fun _ L st h => match st with
  | .ref a :: st => match h.1 a with
    | some (.inr (c', _)) => cond (am_cc c' c) (am_c nx L (.int 1 :: st) h) none
    | _ => none
  | _ => none
def a_getc (g nx : Nat) : am_A := fun G L st h => match st with
  | .ref a :: st => match h.1 a with
    | some (.inl (4, _)) => cond (Nat.ble (am_wd st) 8) (am_c nx L (G g :: st) h) none
    | _ => none
  | _ => none
def a_clone (t nx : Nat) : am_A := fun _ L st h => match st with
  | .ref a :: st => match h.1 a with
    | some (.inl (t', n, x)) => cond (am_cq t' t && Nat.ble (am_wd st) 8) (am_c nx L (.ref h.2.1 :: st) (am_new h (.inl (t, n, x)) n)) none
    | _ => none
  | _ => none
def a_copy (nx : Nat) : am_A := fun _ L st h => match st with
  | .int n :: .int d :: .ref b :: .int s :: .ref a :: st => if s < 0 ∨ d < 0 ∨ n < 0 then none else match h.1 a, h.1 b with
    | some (.inl (t, N1, .inl f)), some (.inl (t', N2, .inl g)) => if s.toNatClampNeg + n.toNatClampNeg ≤ N1 ∧ d.toNatClampNeg + n.toNatClampNeg ≤ N2 then cond (Nat.beq t' t && (Nat.blt t 3 && Nat.ble (am_wd st) 8)) (am_c nx L st (am_set h b (.inl (t, N2, .inl (va_cpy f g s.toNatClampNeg d.toNatClampNeg n.toNatClampNeg))))) none else none
    | some (.inl (4, N1, .inr (.inr (.inr (.inr f))))), some (.inl (4, N2, .inr (.inr (.inr (.inr g))))) => if s.toNatClampNeg + n.toNatClampNeg ≤ N1 ∧ d.toNatClampNeg + n.toNatClampNeg ≤ N2 then cond (Nat.ble (am_wd st) 8) (am_c nx L st (am_set h b (.inl (4, N2, .inr (.inr (.inr (.inr (va_cpy f g s.toNatClampNeg d.toNatClampNeg n.toNatClampNeg)))))))) none else none
    | _, _ => none
  | _ => none
/-- a call with n arguments on the stack -/
def a_inv (k n nx : Nat) : am_A := fun _ L st h => match am_pop n [] st with
  | some (As, st) => cond (Nat.ble (am_wd st) 8 && am_1s As) (some (.inr (.inl (k, As, nx, L, st, h)))) none
  | none => none
/-- .. of a constructor: n arguments and the object -/
def a_invi (k n nx : Nat) : am_A := fun _ L st h => match am_pop n [] st with
  | some (As, .ref a :: st) => cond (Nat.ble (am_wd st) 8 && am_1s As) (some (.inr (.inl (k, .ref a :: As, nx, L, st, h)))) none
  | _ => none
/-- .. through an object of one of these classes -/
def a_invv (ds : List (Nat × Nat)) (n nx : Nat) : am_A := fun _ L st h => match am_pop n [] st with
  | some (As, .ref a :: st) => match h.1 a with
    | some (.inr (c, _)) => match am_dp c ds with
      | some k => cond (Nat.ble (am_wd st) 8 && am_1s As) (some (.inr (.inl (k, .ref a :: As, nx, L, st, h)))) none
      | none => none
    | _ => none
  | _ => none
def a_vret : am_A := fun _ _ st h => match st with
  | [] => some (.inr (.inr (.inl (none, h))))
  | _ => none
def a_iret : am_A := fun _ _ st h => match st with
  | [.int x] => some (.inr (.inr (.inl (some (.int x), h))))
  | _ => none
def a_zret : am_A := fun _ _ st h => match st with
  | [.int x] => if x = 0 ∨ x = 1 then some (.inr (.inr (.inl (some (.int x), h)))) else none
  | _ => none
def a_bret : am_A := a_zret
def a_cret : am_A := fun _ _ st h => match st with
  | [.int x] => if x = (x.toUInt32 % 65536).toInt32 then some (.inr (.inr (.inl (some (.int x), h)))) else none
  | _ => none
def a_aret : am_A := fun _ _ st h => match st with
  | [.ref a] => some (.inr (.inr (.inl (some (.ref a), h))))
  | [.null] => some (.inr (.inr (.inl (some .null, h))))
  | _ => none
def a_athrow : am_A := fun _ _ st h => match st with
  | .ref a :: _ => match h.1 a with
    | some (.inr (c, _)) => cond (Nat.ble 17 c && Nat.blt c 23) (some (.inr (.inr (.inr (c, h))))) none
    | _ => none
  | _ => none
/-- throw new E(): a cell of n slots is made and thrown -/
def a_thr (c n : Nat) : am_A := fun _ _ st h => cond (Nat.ble (am_wd st) 8) (some (.inr (.inr (.inr (c, am_skip h n))))) none
