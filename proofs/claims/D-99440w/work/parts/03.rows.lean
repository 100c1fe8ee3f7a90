/-! RUNS of the abstract machine, and a row for each act -/
set_option maxRecDepth 100000
/-- which exceptions a handler takes: thrown class, the handler's class -/
def am_sub (c e : Nat) : Bool := Nat.beq c e
def am_find (pc c : Nat) : List (Nat × Nat × Nat × Nat × Nat) → Option (Nat × Nat)
  | [] => none
  | (f, t, g, e, i) :: r => cond (Nat.ble f pc && (Nat.blt pc t && am_sub c e)) (some (g, i)) (am_find pc c r)
def am_lo (As : List Value) (n : Nat) : List Value := As ++ List.replicate (n - As.length) am_un
abbrev am_F : Type := Nat → am_M → Nat → List Value → List Value → am_H → Option am_O
def am_hn (rec : am_F) (d : Nat) (M : am_M) (pc : Nat) (L : List Value) (c : Nat) (h : am_H) : Option am_O := match am_find pc c M.2.2 with
  | none => some (.inr (c, h))
  | some (g, i) => rec d M g (am_st L i am_un) [] h
def am_b1 (rec : am_F) (d : Nat) (M : am_M) (pc : Nat) (L : List Value) (r : Option am_R) : Option am_O := match r with
  | none => none
  | some (.inl (pc', L', st', h')) => rec d M pc' L' st' h'
  | some (.inr (.inl (k, As, pc', L', rest, h'))) => match d with
    | 0 => none
    | d' + 1 => match rec d' (am_P k) 0 (am_lo As (am_P k).2.1) [] h' with
      | none => none
      | some (.inl (v, h2)) => rec (d' + 1) M pc' L' (v.toList ++ rest) h2
      | some (.inr (c, h2)) => am_hn rec (d' + 1) M pc L' c h2
  | some (.inr (.inr (.inl (v, h')))) => some (.inl (v, h'))
  | some (.inr (.inr (.inr (c, h')))) => am_hn rec d M pc L c h'
def am_b (G : am_G) (rec : am_F) : am_F := fun d M pc L st h => match M.1 pc with
  | none => none
  | some act => am_b1 rec d M pc L (act G L st h)
def am_x (G : am_G) : Nat → am_F
  | 0 => fun _ _ _ _ _ _ => none
  | n + 1 => am_b G (am_x G n)
theorem am_hn_mono {r1 r2 : am_F} {d1 d2 : Nat} (hr : ∀ M pc L st h R, r1 d1 M pc L st h = some R → r2 d2 M pc L st h = some R) {M : am_M} {pc : Nat} {L : List Value} {c : Nat} {h : am_H} {R : am_O} (e : am_hn r1 d1 M pc L c h = some R) : am_hn r2 d2 M pc L c h = some R := by
  unfold am_hn at e ⊢
  split at e
  · exact e
  · exact hr _ _ _ _ _ _ e
theorem am_b_mono {G : am_G} {r1 r2 : am_F} {i : Nat} (hr : ∀ d M pc L st h R, r1 d M pc L st h = some R → r2 (d + i) M pc L st h = some R) {d : Nat} {M : am_M} {pc : Nat} {L st : List Value} {h : am_H} {R : am_O} (e : am_b G r1 d M pc L st h = some R) : am_b G r2 (d + i) M pc L st h = some R := by
  unfold am_b at e ⊢
  split at e
  · exact e
  · rename_i act ha
    generalize act G L st h = r at e ⊢
    match r, e with
    | some (.inl (pc', L', st', h')), e => exact hr _ _ _ _ _ _ _ e
    | some (.inr (.inl (k, As, pc', L', rest, h'))), e =>
      match d, e with
      | d' + 1, e =>
        rw [Nat.add_right_comm]
        simp only [am_b1] at e ⊢
        generalize hc : r1 d' (am_P k) 0 (am_lo As (am_P k).2.1) [] h' = r9 at e
        match r9, hc, e with
        | some (.inl (v, h2)), hc, e =>
          rw [hr _ _ _ _ _ _ _ hc]
          have := hr _ _ _ _ _ _ _ e
          rw [Nat.add_right_comm] at this
          exact this
        | some (.inr (c, h2)), hc, e =>
          rw [hr _ _ _ _ _ _ _ hc]
          exact am_hn_mono (fun M pc L st h R q => by have := hr _ _ _ _ _ _ _ q; rw [Nat.add_right_comm] at this; exact this) e
    | some (.inr (.inr (.inl (v, h')))), e => exact e
    | some (.inr (.inr (.inr (c, h')))), e => exact am_hn_mono (fun M pc L st h R q => hr _ _ _ _ _ _ _ q) e
theorem am_x_succ {G : am_G} : ∀ (n d : Nat) (M : am_M) (pc : Nat) (L st : List Value) (h : am_H) (R : am_O), am_x G n d M pc L st h = some R → am_x G (n + 1) d M pc L st h = some R
  | 0, _, _, _, _, _, _, _, e => nomatch e
  | n + 1, d, M, pc, L, st, h, R, e => am_b_mono (i := 0) (fun d M pc L st h R q => am_x_succ n d M pc L st h R q) e
theorem am_x_d {G : am_G} : ∀ (n d : Nat) (M : am_M) (pc : Nat) (L st : List Value) (h : am_H) (R : am_O), am_x G n d M pc L st h = some R → am_x G n (d + 1) M pc L st h = some R
  | 0, _, _, _, _, _, _, _, e => nomatch e
  | n + 1, d, M, pc, L, st, h, R, e => am_b_mono (i := 1) (fun d M pc L st h R q => am_x_d n d M pc L st h R q) e
theorem am_x_le {G : am_G} {n m d e : Nat} (h1 : n ≤ m) (h2 : d ≤ e) {M : am_M} {pc : Nat} {L st : List Value} {h : am_H} {R : am_O} (q : am_x G n d M pc L st h = some R) : am_x G m e M pc L st h = some R := by
  obtain ⟨i, rfl⟩ := Nat.le.dest h1
  obtain ⟨j, rfl⟩ := Nat.le.dest h2
  have a : ∀ i, am_x G (n + i) d M pc L st h = some R := fun i => by
    induction i with
    | zero => exact q
    | succ i ih => exact am_x_succ _ _ _ _ _ _ _ _ ih
  have b : ∀ j, am_x G (n + i) (d + j) M pc L st h = some R := fun j => by
    induction j with
    | zero => exact a i
    | succ j ih => exact am_x_d _ _ _ _ _ _ _ _ ih
  exact b j
/-- from here the frame comes to its end, and there Q holds -/
def Wp (G : am_G) (d : Nat) (M : am_M) (pc : Nat) (L st : List Value) (h : am_H) (Q : am_O → Prop) : Prop := ∃ n R, am_x G n d M pc L st h = some R ∧ Q R
/-- a call of method k -/
def Wc (G : am_G) (d k : Nat) (As : List Value) (h : am_H) (Q : am_O → Prop) : Prop := Wp G d (am_P k) 0 (am_lo As (am_P k).2.1) [] h Q
/-- a call that answers v and changes nothing -/
abbrev Vc (G : am_G) (d k : Nat) (As : List Value) (h : am_H) (v : Value) : Prop := Wc G d k As h (fun R => R = .inl (some v, h))
/-- .. that answers nothing -/
abbrev Vn (G : am_G) (d k : Nat) (As : List Value) (h : am_H) : Prop := Wc G d k As h (fun R => R = .inl (none, h))
/-- behind a call -/
def Wr (G : am_G) (d : Nat) (M : am_M) (pc nx : Nat) (L st : List Value) (Q : am_O → Prop) (R : am_O) : Prop := match R with
  | .inl (some v, h) => Wp G d M nx L (v :: st) h Q
  | .inl (none, h) => Wp G d M nx L st h Q
  | .inr (c, h) => match am_find pc c M.2.2 with
    | none => Q (.inr (c, h))
    | some (g, i) => Wp G d M g (am_st L i am_un) [] h Q
section
variable {G : am_G} {d e : Nat} {M : am_M} {pc nx tg : Nat} {L st : List Value} {h : am_H} {Q Q1 : am_O → Prop}
theorem wp_mono (hq : ∀ R, Q1 R → Q R) (w : Wp G d M pc L st h Q1) : Wp G d M pc L st h Q := by
  obtain ⟨n, R, a, b⟩ := w
  exact ⟨n, R, a, hq R b⟩
theorem wc_mono {k : Nat} {As : List Value} (hq : ∀ R, Q1 R → Q R) (w : Wc G d k As h Q1) : Wc G d k As h Q := wp_mono hq w
theorem wp_le (hd : e ≤ d) (w : Wp G e M pc L st h Q) : Wp G d M pc L st h Q := by
  obtain ⟨n, R, a, b⟩ := w
  exact ⟨n, R, am_x_le (Nat.le_refl n) hd a, b⟩
theorem wc_le {k : Nat} {As : List Value} (hd : e ≤ d) (w : Wc G e k As h Q) : Wc G d k As h Q := wp_le hd w
theorem wc_in {k : Nat} {As : List Value} (M : am_M) (hM : am_P k = M) (hL : am_lo As M.2.1 = L) (w : Wp G d M 0 L [] h Q) : Wc G d k As h Q := by
  subst hM hL
  exact w
theorem r_s {act : am_A} {L' st' : List Value} {h' : am_H} (hf : M.1 pc = some act) (ha : act G L st h = am_c nx L' st' h') (k : Wp G d M nx L' st' h' Q) : Wp G d M pc L st h Q := by
  obtain ⟨n, R, a, b⟩ := k
  refine ⟨n + 1, R, ?_, b⟩
  show am_b G (am_x G n) d M pc L st h = some R
  unfold am_b
  rw [hf]
  show am_b1 _ _ _ _ _ (act G L st h) = _
  rw [ha]
  exact a
theorem r_qr {act : am_A} {v : Option Value} {h' : am_H} (hf : M.1 pc = some act) (ha : act G L st h = some (.inr (.inr (.inl (v, h'))))) (hq : Q (.inl (v, h'))) : Wp G d M pc L st h Q := by
  refine ⟨1, _, ?_, hq⟩
  show am_b G (am_x G 0) d M pc L st h = _
  unfold am_b
  rw [hf]
  show am_b1 _ _ _ _ _ (act G L st h) = _
  rw [ha]
  rfl
theorem r_qt {act : am_A} {c : Nat} {h' : am_H} (hf : M.1 pc = some act) (ha : act G L st h = some (.inr (.inr (.inr (c, h'))))) (hn : am_find pc c M.2.2 = none) (hq : Q (.inr (c, h'))) : Wp G d M pc L st h Q := by
  refine ⟨1, _, ?_, hq⟩
  show am_b G (am_x G 0) d M pc L st h = _
  unfold am_b
  rw [hf]
  show am_b1 _ _ _ _ _ (act G L st h) = _
  rw [ha]
  show am_hn _ _ _ _ _ _ _ = _
  unfold am_hn
  rw [hn]
def am_aft (rec : am_F) (d : Nat) (M : am_M) (pc nx : Nat) (L rest : List Value) (R : am_O) : Option am_O := match R with
  | .inl (v, h2) => rec d M nx L (v.toList ++ rest) h2
  | .inr (c, h2) => am_hn rec d M pc L c h2
theorem r_k {act : am_A} {k : Nat} {As L' rest : List Value} {h' : am_H} (hf : M.1 pc = some act) (ha : act G L st h = some (.inr (.inl (k, As, nx, L', rest, h')))) (hd : e < d) (hc : Wc G e k As h' Q1) (kk : ∀ R, Q1 R → Wr G d M pc nx L' rest Q R) : Wp G d M pc L st h Q := by
  obtain ⟨d, rfl⟩ : ∃ z, d = z + 1 := ⟨d - 1, by omega⟩
  obtain ⟨n1, R1, a1, b1⟩ := id hc
  have w := kk R1 b1
  have key : ∀ n, n1 ≤ n → am_x G (n + 1) (d + 1) M pc L st h = am_aft (am_x G n) (d + 1) M pc nx L' rest R1 := by
    intro n hn
    show am_b G (am_x G n) (d + 1) M pc L st h = _
    unfold am_b
    rw [hf]
    show am_b1 _ _ _ _ _ (act G L st h) = _
    rw [ha]
    simp only [am_b1]
    rw [am_x_le hn (Nat.le_of_lt_succ hd) a1]
    cases R1 <;> rfl
  rcases R1 with ⟨v, h2⟩ | ⟨c, h2⟩
  · cases v with
    | some v =>
      obtain ⟨n2, R, a2, b2⟩ := w
      exact ⟨max n1 n2 + 1, R, (key _ (Nat.le_max_left _ _)).trans (am_x_le (Nat.le_max_right _ _) (Nat.le_refl _) a2), b2⟩
    | none =>
      obtain ⟨n2, R, a2, b2⟩ := w
      exact ⟨max n1 n2 + 1, R, (key _ (Nat.le_max_left _ _)).trans (am_x_le (Nat.le_max_right _ _) (Nat.le_refl _) a2), b2⟩
  · simp only [Wr] at w
    generalize hg : am_find pc c M.2.2 = g at w
    cases g with
    | none => exact ⟨n1 + 1, _, (key _ (Nat.le_refl _)).trans (by simp only [am_aft, am_hn, hg]), w⟩
    | some gi =>
      obtain ⟨g, i⟩ := gi
      obtain ⟨n2, R, a2, b2⟩ := w
      exact ⟨max n1 n2 + 1, R, (key _ (Nat.le_max_left _ _)).trans (by simp only [am_aft, am_hn, hg]; exact am_x_le (Nat.le_max_right _ _) (Nat.le_refl _) a2), b2⟩
theorem r_push {v : Value} (hf : M.1 pc = some (a_push v nx)) (k : Wp G d M nx L (v :: st) h Q) : Wp G d M pc L st h Q := r_s hf rfl k
theorem r_glob {g : Nat} (hf : M.1 pc = some (a_glob g nx)) (k : Wp G d M nx L (G g :: st) h Q) : Wp G d M pc L st h Q := r_s hf rfl k
theorem r_iload_0 {r : List Value} {v : Int32} (hf : M.1 pc = some (a_iload 0 nx)) (k : Wp G d M nx (.int v :: r) (.int v :: st) h Q) : Wp G d M pc (.int v :: r) st h Q := r_s hf rfl k
theorem r_aload_0 {r : List Value} {v : Nat} (hf : M.1 pc = some (a_aload 0 nx)) (k : Wp G d M nx (.ref v :: r) (.ref v :: st) h Q) : Wp G d M pc (.ref v :: r) st h Q := r_s hf rfl k
theorem r_aloadN_0 {r : List Value} (hf : M.1 pc = some (a_aload 0 nx)) (k : Wp G d M nx (.null :: r) (.null :: st) h Q) : Wp G d M pc (.null :: r) st h Q := r_s hf rfl k
theorem r_istore_0 {r : List Value} {w : Value} {v : Int32} (hf : M.1 pc = some (a_istore 0 nx)) (k : Wp G d M nx (.int v :: r) st h Q) : Wp G d M pc (w :: r) (.int v :: st) h Q := r_s hf rfl k
theorem r_astore_0 {r : List Value} {w : Value} {v : Nat} (hf : M.1 pc = some (a_astore 0 nx)) (k : Wp G d M nx (.ref v :: r) st h Q) : Wp G d M pc (w :: r) (.ref v :: st) h Q := r_s hf rfl k
theorem r_astoreN_0 {r : List Value} {w : Value} (hf : M.1 pc = some (a_astore 0 nx)) (k : Wp G d M nx (.null :: r) st h Q) : Wp G d M pc (w :: r) (.null :: st) h Q := r_s hf rfl k
theorem r_iinc_0 {r : List Value} {v c : Int32} (hf : M.1 pc = some (a_iinc 0 c nx)) (k : Wp G d M nx (.int (v + c) :: r) st h Q) : Wp G d M pc (.int v :: r) st h Q := r_s hf rfl k
theorem r_iload_1 {x0 : Value} {r : List Value} {v : Int32} (hf : M.1 pc = some (a_iload 1 nx)) (k : Wp G d M nx (x0 :: .int v :: r) (.int v :: st) h Q) : Wp G d M pc (x0 :: .int v :: r) st h Q := r_s hf rfl k
theorem r_aload_1 {x0 : Value} {r : List Value} {v : Nat} (hf : M.1 pc = some (a_aload 1 nx)) (k : Wp G d M nx (x0 :: .ref v :: r) (.ref v :: st) h Q) : Wp G d M pc (x0 :: .ref v :: r) st h Q := r_s hf rfl k
theorem r_aloadN_1 {x0 : Value} {r : List Value} (hf : M.1 pc = some (a_aload 1 nx)) (k : Wp G d M nx (x0 :: .null :: r) (.null :: st) h Q) : Wp G d M pc (x0 :: .null :: r) st h Q := r_s hf rfl k
theorem r_istore_1 {x0 : Value} {r : List Value} {w : Value} {v : Int32} (hf : M.1 pc = some (a_istore 1 nx)) (k : Wp G d M nx (x0 :: .int v :: r) st h Q) : Wp G d M pc (x0 :: w :: r) (.int v :: st) h Q := r_s hf rfl k
theorem r_astore_1 {x0 : Value} {r : List Value} {w : Value} {v : Nat} (hf : M.1 pc = some (a_astore 1 nx)) (k : Wp G d M nx (x0 :: .ref v :: r) st h Q) : Wp G d M pc (x0 :: w :: r) (.ref v :: st) h Q := r_s hf rfl k
theorem r_astoreN_1 {x0 : Value} {r : List Value} {w : Value} (hf : M.1 pc = some (a_astore 1 nx)) (k : Wp G d M nx (x0 :: .null :: r) st h Q) : Wp G d M pc (x0 :: w :: r) (.null :: st) h Q := r_s hf rfl k
theorem r_iinc_1 {x0 : Value} {r : List Value} {v c : Int32} (hf : M.1 pc = some (a_iinc 1 c nx)) (k : Wp G d M nx (x0 :: .int (v + c) :: r) st h Q) : Wp G d M pc (x0 :: .int v :: r) st h Q := r_s hf rfl k
theorem r_iload_2 {x0 x1 : Value} {r : List Value} {v : Int32} (hf : M.1 pc = some (a_iload 2 nx)) (k : Wp G d M nx (x0 :: x1 :: .int v :: r) (.int v :: st) h Q) : Wp G d M pc (x0 :: x1 :: .int v :: r) st h Q := r_s hf rfl k
theorem r_aload_2 {x0 x1 : Value} {r : List Value} {v : Nat} (hf : M.1 pc = some (a_aload 2 nx)) (k : Wp G d M nx (x0 :: x1 :: .ref v :: r) (.ref v :: st) h Q) : Wp G d M pc (x0 :: x1 :: .ref v :: r) st h Q := r_s hf rfl k
theorem r_aloadN_2 {x0 x1 : Value} {r : List Value} (hf : M.1 pc = some (a_aload 2 nx)) (k : Wp G d M nx (x0 :: x1 :: .null :: r) (.null :: st) h Q) : Wp G d M pc (x0 :: x1 :: .null :: r) st h Q := r_s hf rfl k
theorem r_istore_2 {x0 x1 : Value} {r : List Value} {w : Value} {v : Int32} (hf : M.1 pc = some (a_istore 2 nx)) (k : Wp G d M nx (x0 :: x1 :: .int v :: r) st h Q) : Wp G d M pc (x0 :: x1 :: w :: r) (.int v :: st) h Q := r_s hf rfl k
theorem r_astore_2 {x0 x1 : Value} {r : List Value} {w : Value} {v : Nat} (hf : M.1 pc = some (a_astore 2 nx)) (k : Wp G d M nx (x0 :: x1 :: .ref v :: r) st h Q) : Wp G d M pc (x0 :: x1 :: w :: r) (.ref v :: st) h Q := r_s hf rfl k
theorem r_astoreN_2 {x0 x1 : Value} {r : List Value} {w : Value} (hf : M.1 pc = some (a_astore 2 nx)) (k : Wp G d M nx (x0 :: x1 :: .null :: r) st h Q) : Wp G d M pc (x0 :: x1 :: w :: r) (.null :: st) h Q := r_s hf rfl k
theorem r_iinc_2 {x0 x1 : Value} {r : List Value} {v c : Int32} (hf : M.1 pc = some (a_iinc 2 c nx)) (k : Wp G d M nx (x0 :: x1 :: .int (v + c) :: r) st h Q) : Wp G d M pc (x0 :: x1 :: .int v :: r) st h Q := r_s hf rfl k
theorem r_iload_3 {x0 x1 x2 : Value} {r : List Value} {v : Int32} (hf : M.1 pc = some (a_iload 3 nx)) (k : Wp G d M nx (x0 :: x1 :: x2 :: .int v :: r) (.int v :: st) h Q) : Wp G d M pc (x0 :: x1 :: x2 :: .int v :: r) st h Q := r_s hf rfl k
theorem r_aload_3 {x0 x1 x2 : Value} {r : List Value} {v : Nat} (hf : M.1 pc = some (a_aload 3 nx)) (k : Wp G d M nx (x0 :: x1 :: x2 :: .ref v :: r) (.ref v :: st) h Q) : Wp G d M pc (x0 :: x1 :: x2 :: .ref v :: r) st h Q := r_s hf rfl k
theorem r_aloadN_3 {x0 x1 x2 : Value} {r : List Value} (hf : M.1 pc = some (a_aload 3 nx)) (k : Wp G d M nx (x0 :: x1 :: x2 :: .null :: r) (.null :: st) h Q) : Wp G d M pc (x0 :: x1 :: x2 :: .null :: r) st h Q := r_s hf rfl k
theorem r_istore_3 {x0 x1 x2 : Value} {r : List Value} {w : Value} {v : Int32} (hf : M.1 pc = some (a_istore 3 nx)) (k : Wp G d M nx (x0 :: x1 :: x2 :: .int v :: r) st h Q) : Wp G d M pc (x0 :: x1 :: x2 :: w :: r) (.int v :: st) h Q := r_s hf rfl k
theorem r_astore_3 {x0 x1 x2 : Value} {r : List Value} {w : Value} {v : Nat} (hf : M.1 pc = some (a_astore 3 nx)) (k : Wp G d M nx (x0 :: x1 :: x2 :: .ref v :: r) st h Q) : Wp G d M pc (x0 :: x1 :: x2 :: w :: r) (.ref v :: st) h Q := r_s hf rfl k
theorem r_astoreN_3 {x0 x1 x2 : Value} {r : List Value} {w : Value} (hf : M.1 pc = some (a_astore 3 nx)) (k : Wp G d M nx (x0 :: x1 :: x2 :: .null :: r) st h Q) : Wp G d M pc (x0 :: x1 :: x2 :: w :: r) (.null :: st) h Q := r_s hf rfl k
theorem r_iinc_3 {x0 x1 x2 : Value} {r : List Value} {v c : Int32} (hf : M.1 pc = some (a_iinc 3 c nx)) (k : Wp G d M nx (x0 :: x1 :: x2 :: .int (v + c) :: r) st h Q) : Wp G d M pc (x0 :: x1 :: x2 :: .int v :: r) st h Q := r_s hf rfl k
theorem r_iload_4 {x0 x1 x2 x3 : Value} {r : List Value} {v : Int32} (hf : M.1 pc = some (a_iload 4 nx)) (k : Wp G d M nx (x0 :: x1 :: x2 :: x3 :: .int v :: r) (.int v :: st) h Q) : Wp G d M pc (x0 :: x1 :: x2 :: x3 :: .int v :: r) st h Q := r_s hf rfl k
theorem r_aload_4 {x0 x1 x2 x3 : Value} {r : List Value} {v : Nat} (hf : M.1 pc = some (a_aload 4 nx)) (k : Wp G d M nx (x0 :: x1 :: x2 :: x3 :: .ref v :: r) (.ref v :: st) h Q) : Wp G d M pc (x0 :: x1 :: x2 :: x3 :: .ref v :: r) st h Q := r_s hf rfl k
theorem r_aloadN_4 {x0 x1 x2 x3 : Value} {r : List Value} (hf : M.1 pc = some (a_aload 4 nx)) (k : Wp G d M nx (x0 :: x1 :: x2 :: x3 :: .null :: r) (.null :: st) h Q) : Wp G d M pc (x0 :: x1 :: x2 :: x3 :: .null :: r) st h Q := r_s hf rfl k
theorem r_istore_4 {x0 x1 x2 x3 : Value} {r : List Value} {w : Value} {v : Int32} (hf : M.1 pc = some (a_istore 4 nx)) (k : Wp G d M nx (x0 :: x1 :: x2 :: x3 :: .int v :: r) st h Q) : Wp G d M pc (x0 :: x1 :: x2 :: x3 :: w :: r) (.int v :: st) h Q := r_s hf rfl k
theorem r_astore_4 {x0 x1 x2 x3 : Value} {r : List Value} {w : Value} {v : Nat} (hf : M.1 pc = some (a_astore 4 nx)) (k : Wp G d M nx (x0 :: x1 :: x2 :: x3 :: .ref v :: r) st h Q) : Wp G d M pc (x0 :: x1 :: x2 :: x3 :: w :: r) (.ref v :: st) h Q := r_s hf rfl k
theorem r_astoreN_4 {x0 x1 x2 x3 : Value} {r : List Value} {w : Value} (hf : M.1 pc = some (a_astore 4 nx)) (k : Wp G d M nx (x0 :: x1 :: x2 :: x3 :: .null :: r) st h Q) : Wp G d M pc (x0 :: x1 :: x2 :: x3 :: w :: r) (.null :: st) h Q := r_s hf rfl k
theorem r_iinc_4 {x0 x1 x2 x3 : Value} {r : List Value} {v c : Int32} (hf : M.1 pc = some (a_iinc 4 c nx)) (k : Wp G d M nx (x0 :: x1 :: x2 :: x3 :: .int (v + c) :: r) st h Q) : Wp G d M pc (x0 :: x1 :: x2 :: x3 :: .int v :: r) st h Q := r_s hf rfl k
theorem r_iload_5 {x0 x1 x2 x3 x4 : Value} {r : List Value} {v : Int32} (hf : M.1 pc = some (a_iload 5 nx)) (k : Wp G d M nx (x0 :: x1 :: x2 :: x3 :: x4 :: .int v :: r) (.int v :: st) h Q) : Wp G d M pc (x0 :: x1 :: x2 :: x3 :: x4 :: .int v :: r) st h Q := r_s hf rfl k
theorem r_aload_5 {x0 x1 x2 x3 x4 : Value} {r : List Value} {v : Nat} (hf : M.1 pc = some (a_aload 5 nx)) (k : Wp G d M nx (x0 :: x1 :: x2 :: x3 :: x4 :: .ref v :: r) (.ref v :: st) h Q) : Wp G d M pc (x0 :: x1 :: x2 :: x3 :: x4 :: .ref v :: r) st h Q := r_s hf rfl k
theorem r_aloadN_5 {x0 x1 x2 x3 x4 : Value} {r : List Value} (hf : M.1 pc = some (a_aload 5 nx)) (k : Wp G d M nx (x0 :: x1 :: x2 :: x3 :: x4 :: .null :: r) (.null :: st) h Q) : Wp G d M pc (x0 :: x1 :: x2 :: x3 :: x4 :: .null :: r) st h Q := r_s hf rfl k
theorem r_istore_5 {x0 x1 x2 x3 x4 : Value} {r : List Value} {w : Value} {v : Int32} (hf : M.1 pc = some (a_istore 5 nx)) (k : Wp G d M nx (x0 :: x1 :: x2 :: x3 :: x4 :: .int v :: r) st h Q) : Wp G d M pc (x0 :: x1 :: x2 :: x3 :: x4 :: w :: r) (.int v :: st) h Q := r_s hf rfl k
theorem r_astore_5 {x0 x1 x2 x3 x4 : Value} {r : List Value} {w : Value} {v : Nat} (hf : M.1 pc = some (a_astore 5 nx)) (k : Wp G d M nx (x0 :: x1 :: x2 :: x3 :: x4 :: .ref v :: r) st h Q) : Wp G d M pc (x0 :: x1 :: x2 :: x3 :: x4 :: w :: r) (.ref v :: st) h Q := r_s hf rfl k
theorem r_astoreN_5 {x0 x1 x2 x3 x4 : Value} {r : List Value} {w : Value} (hf : M.1 pc = some (a_astore 5 nx)) (k : Wp G d M nx (x0 :: x1 :: x2 :: x3 :: x4 :: .null :: r) st h Q) : Wp G d M pc (x0 :: x1 :: x2 :: x3 :: x4 :: w :: r) (.null :: st) h Q := r_s hf rfl k
theorem r_iinc_5 {x0 x1 x2 x3 x4 : Value} {r : List Value} {v c : Int32} (hf : M.1 pc = some (a_iinc 5 c nx)) (k : Wp G d M nx (x0 :: x1 :: x2 :: x3 :: x4 :: .int (v + c) :: r) st h Q) : Wp G d M pc (x0 :: x1 :: x2 :: x3 :: x4 :: .int v :: r) st h Q := r_s hf rfl k
theorem r_iload_6 {x0 x1 x2 x3 x4 x5 : Value} {r : List Value} {v : Int32} (hf : M.1 pc = some (a_iload 6 nx)) (k : Wp G d M nx (x0 :: x1 :: x2 :: x3 :: x4 :: x5 :: .int v :: r) (.int v :: st) h Q) : Wp G d M pc (x0 :: x1 :: x2 :: x3 :: x4 :: x5 :: .int v :: r) st h Q := r_s hf rfl k
theorem r_aload_6 {x0 x1 x2 x3 x4 x5 : Value} {r : List Value} {v : Nat} (hf : M.1 pc = some (a_aload 6 nx)) (k : Wp G d M nx (x0 :: x1 :: x2 :: x3 :: x4 :: x5 :: .ref v :: r) (.ref v :: st) h Q) : Wp G d M pc (x0 :: x1 :: x2 :: x3 :: x4 :: x5 :: .ref v :: r) st h Q := r_s hf rfl k
theorem r_aloadN_6 {x0 x1 x2 x3 x4 x5 : Value} {r : List Value} (hf : M.1 pc = some (a_aload 6 nx)) (k : Wp G d M nx (x0 :: x1 :: x2 :: x3 :: x4 :: x5 :: .null :: r) (.null :: st) h Q) : Wp G d M pc (x0 :: x1 :: x2 :: x3 :: x4 :: x5 :: .null :: r) st h Q := r_s hf rfl k
theorem r_istore_6 {x0 x1 x2 x3 x4 x5 : Value} {r : List Value} {w : Value} {v : Int32} (hf : M.1 pc = some (a_istore 6 nx)) (k : Wp G d M nx (x0 :: x1 :: x2 :: x3 :: x4 :: x5 :: .int v :: r) st h Q) : Wp G d M pc (x0 :: x1 :: x2 :: x3 :: x4 :: x5 :: w :: r) (.int v :: st) h Q := r_s hf rfl k
theorem r_astore_6 {x0 x1 x2 x3 x4 x5 : Value} {r : List Value} {w : Value} {v : Nat} (hf : M.1 pc = some (a_astore 6 nx)) (k : Wp G d M nx (x0 :: x1 :: x2 :: x3 :: x4 :: x5 :: .ref v :: r) st h Q) : Wp G d M pc (x0 :: x1 :: x2 :: x3 :: x4 :: x5 :: w :: r) (.ref v :: st) h Q := r_s hf rfl k
theorem r_astoreN_6 {x0 x1 x2 x3 x4 x5 : Value} {r : List Value} {w : Value} (hf : M.1 pc = some (a_astore 6 nx)) (k : Wp G d M nx (x0 :: x1 :: x2 :: x3 :: x4 :: x5 :: .null :: r) st h Q) : Wp G d M pc (x0 :: x1 :: x2 :: x3 :: x4 :: x5 :: w :: r) (.null :: st) h Q := r_s hf rfl k
theorem r_iinc_6 {x0 x1 x2 x3 x4 x5 : Value} {r : List Value} {v c : Int32} (hf : M.1 pc = some (a_iinc 6 c nx)) (k : Wp G d M nx (x0 :: x1 :: x2 :: x3 :: x4 :: x5 :: .int (v + c) :: r) st h Q) : Wp G d M pc (x0 :: x1 :: x2 :: x3 :: x4 :: x5 :: .int v :: r) st h Q := r_s hf rfl k
theorem r_iload_7 {x0 x1 x2 x3 x4 x5 x6 : Value} {r : List Value} {v : Int32} (hf : M.1 pc = some (a_iload 7 nx)) (k : Wp G d M nx (x0 :: x1 :: x2 :: x3 :: x4 :: x5 :: x6 :: .int v :: r) (.int v :: st) h Q) : Wp G d M pc (x0 :: x1 :: x2 :: x3 :: x4 :: x5 :: x6 :: .int v :: r) st h Q := r_s hf rfl k
theorem r_aload_7 {x0 x1 x2 x3 x4 x5 x6 : Value} {r : List Value} {v : Nat} (hf : M.1 pc = some (a_aload 7 nx)) (k : Wp G d M nx (x0 :: x1 :: x2 :: x3 :: x4 :: x5 :: x6 :: .ref v :: r) (.ref v :: st) h Q) : Wp G d M pc (x0 :: x1 :: x2 :: x3 :: x4 :: x5 :: x6 :: .ref v :: r) st h Q := r_s hf rfl k
theorem r_aloadN_7 {x0 x1 x2 x3 x4 x5 x6 : Value} {r : List Value} (hf : M.1 pc = some (a_aload 7 nx)) (k : Wp G d M nx (x0 :: x1 :: x2 :: x3 :: x4 :: x5 :: x6 :: .null :: r) (.null :: st) h Q) : Wp G d M pc (x0 :: x1 :: x2 :: x3 :: x4 :: x5 :: x6 :: .null :: r) st h Q := r_s hf rfl k
theorem r_istore_7 {x0 x1 x2 x3 x4 x5 x6 : Value} {r : List Value} {w : Value} {v : Int32} (hf : M.1 pc = some (a_istore 7 nx)) (k : Wp G d M nx (x0 :: x1 :: x2 :: x3 :: x4 :: x5 :: x6 :: .int v :: r) st h Q) : Wp G d M pc (x0 :: x1 :: x2 :: x3 :: x4 :: x5 :: x6 :: w :: r) (.int v :: st) h Q := r_s hf rfl k
theorem r_astore_7 {x0 x1 x2 x3 x4 x5 x6 : Value} {r : List Value} {w : Value} {v : Nat} (hf : M.1 pc = some (a_astore 7 nx)) (k : Wp G d M nx (x0 :: x1 :: x2 :: x3 :: x4 :: x5 :: x6 :: .ref v :: r) st h Q) : Wp G d M pc (x0 :: x1 :: x2 :: x3 :: x4 :: x5 :: x6 :: w :: r) (.ref v :: st) h Q := r_s hf rfl k
theorem r_astoreN_7 {x0 x1 x2 x3 x4 x5 x6 : Value} {r : List Value} {w : Value} (hf : M.1 pc = some (a_astore 7 nx)) (k : Wp G d M nx (x0 :: x1 :: x2 :: x3 :: x4 :: x5 :: x6 :: .null :: r) st h Q) : Wp G d M pc (x0 :: x1 :: x2 :: x3 :: x4 :: x5 :: x6 :: w :: r) (.null :: st) h Q := r_s hf rfl k
theorem r_iinc_7 {x0 x1 x2 x3 x4 x5 x6 : Value} {r : List Value} {v c : Int32} (hf : M.1 pc = some (a_iinc 7 c nx)) (k : Wp G d M nx (x0 :: x1 :: x2 :: x3 :: x4 :: x5 :: x6 :: .int (v + c) :: r) st h Q) : Wp G d M pc (x0 :: x1 :: x2 :: x3 :: x4 :: x5 :: x6 :: .int v :: r) st h Q := r_s hf rfl k
theorem r_iload_8 {x0 x1 x2 x3 x4 x5 x6 x7 : Value} {r : List Value} {v : Int32} (hf : M.1 pc = some (a_iload 8 nx)) (k : Wp G d M nx (x0 :: x1 :: x2 :: x3 :: x4 :: x5 :: x6 :: x7 :: .int v :: r) (.int v :: st) h Q) : Wp G d M pc (x0 :: x1 :: x2 :: x3 :: x4 :: x5 :: x6 :: x7 :: .int v :: r) st h Q := r_s hf rfl k
theorem r_aload_8 {x0 x1 x2 x3 x4 x5 x6 x7 : Value} {r : List Value} {v : Nat} (hf : M.1 pc = some (a_aload 8 nx)) (k : Wp G d M nx (x0 :: x1 :: x2 :: x3 :: x4 :: x5 :: x6 :: x7 :: .ref v :: r) (.ref v :: st) h Q) : Wp G d M pc (x0 :: x1 :: x2 :: x3 :: x4 :: x5 :: x6 :: x7 :: .ref v :: r) st h Q := r_s hf rfl k
theorem r_aloadN_8 {x0 x1 x2 x3 x4 x5 x6 x7 : Value} {r : List Value} (hf : M.1 pc = some (a_aload 8 nx)) (k : Wp G d M nx (x0 :: x1 :: x2 :: x3 :: x4 :: x5 :: x6 :: x7 :: .null :: r) (.null :: st) h Q) : Wp G d M pc (x0 :: x1 :: x2 :: x3 :: x4 :: x5 :: x6 :: x7 :: .null :: r) st h Q := r_s hf rfl k
theorem r_istore_8 {x0 x1 x2 x3 x4 x5 x6 x7 : Value} {r : List Value} {w : Value} {v : Int32} (hf : M.1 pc = some (a_istore 8 nx)) (k : Wp G d M nx (x0 :: x1 :: x2 :: x3 :: x4 :: x5 :: x6 :: x7 :: .int v :: r) st h Q) : Wp G d M pc (x0 :: x1 :: x2 :: x3 :: x4 :: x5 :: x6 :: x7 :: w :: r) (.int v :: st) h Q := r_s hf rfl k
theorem r_astore_8 {x0 x1 x2 x3 x4 x5 x6 x7 : Value} {r : List Value} {w : Value} {v : Nat} (hf : M.1 pc = some (a_astore 8 nx)) (k : Wp G d M nx (x0 :: x1 :: x2 :: x3 :: x4 :: x5 :: x6 :: x7 :: .ref v :: r) st h Q) : Wp G d M pc (x0 :: x1 :: x2 :: x3 :: x4 :: x5 :: x6 :: x7 :: w :: r) (.ref v :: st) h Q := r_s hf rfl k
theorem r_astoreN_8 {x0 x1 x2 x3 x4 x5 x6 x7 : Value} {r : List Value} {w : Value} (hf : M.1 pc = some (a_astore 8 nx)) (k : Wp G d M nx (x0 :: x1 :: x2 :: x3 :: x4 :: x5 :: x6 :: x7 :: .null :: r) st h Q) : Wp G d M pc (x0 :: x1 :: x2 :: x3 :: x4 :: x5 :: x6 :: x7 :: w :: r) (.null :: st) h Q := r_s hf rfl k
theorem r_iinc_8 {x0 x1 x2 x3 x4 x5 x6 x7 : Value} {r : List Value} {v c : Int32} (hf : M.1 pc = some (a_iinc 8 c nx)) (k : Wp G d M nx (x0 :: x1 :: x2 :: x3 :: x4 :: x5 :: x6 :: x7 :: .int (v + c) :: r) st h Q) : Wp G d M pc (x0 :: x1 :: x2 :: x3 :: x4 :: x5 :: x6 :: x7 :: .int v :: r) st h Q := r_s hf rfl k
theorem r_iload_9 {x0 x1 x2 x3 x4 x5 x6 x7 x8 : Value} {r : List Value} {v : Int32} (hf : M.1 pc = some (a_iload 9 nx)) (k : Wp G d M nx (x0 :: x1 :: x2 :: x3 :: x4 :: x5 :: x6 :: x7 :: x8 :: .int v :: r) (.int v :: st) h Q) : Wp G d M pc (x0 :: x1 :: x2 :: x3 :: x4 :: x5 :: x6 :: x7 :: x8 :: .int v :: r) st h Q := r_s hf rfl k
theorem r_aload_9 {x0 x1 x2 x3 x4 x5 x6 x7 x8 : Value} {r : List Value} {v : Nat} (hf : M.1 pc = some (a_aload 9 nx)) (k : Wp G d M nx (x0 :: x1 :: x2 :: x3 :: x4 :: x5 :: x6 :: x7 :: x8 :: .ref v :: r) (.ref v :: st) h Q) : Wp G d M pc (x0 :: x1 :: x2 :: x3 :: x4 :: x5 :: x6 :: x7 :: x8 :: .ref v :: r) st h Q := r_s hf rfl k
theorem r_aloadN_9 {x0 x1 x2 x3 x4 x5 x6 x7 x8 : Value} {r : List Value} (hf : M.1 pc = some (a_aload 9 nx)) (k : Wp G d M nx (x0 :: x1 :: x2 :: x3 :: x4 :: x5 :: x6 :: x7 :: x8 :: .null :: r) (.null :: st) h Q) : Wp G d M pc (x0 :: x1 :: x2 :: x3 :: x4 :: x5 :: x6 :: x7 :: x8 :: .null :: r) st h Q := r_s hf rfl k
theorem r_istore_9 {x0 x1 x2 x3 x4 x5 x6 x7 x8 : Value} {r : List Value} {w : Value} {v : Int32} (hf : M.1 pc = some (a_istore 9 nx)) (k : Wp G d M nx (x0 :: x1 :: x2 :: x3 :: x4 :: x5 :: x6 :: x7 :: x8 :: .int v :: r) st h Q) : Wp G d M pc (x0 :: x1 :: x2 :: x3 :: x4 :: x5 :: x6 :: x7 :: x8 :: w :: r) (.int v :: st) h Q := r_s hf rfl k
theorem r_astore_9 {x0 x1 x2 x3 x4 x5 x6 x7 x8 : Value} {r : List Value} {w : Value} {v : Nat} (hf : M.1 pc = some (a_astore 9 nx)) (k : Wp G d M nx (x0 :: x1 :: x2 :: x3 :: x4 :: x5 :: x6 :: x7 :: x8 :: .ref v :: r) st h Q) : Wp G d M pc (x0 :: x1 :: x2 :: x3 :: x4 :: x5 :: x6 :: x7 :: x8 :: w :: r) (.ref v :: st) h Q := r_s hf rfl k
theorem r_astoreN_9 {x0 x1 x2 x3 x4 x5 x6 x7 x8 : Value} {r : List Value} {w : Value} (hf : M.1 pc = some (a_astore 9 nx)) (k : Wp G d M nx (x0 :: x1 :: x2 :: x3 :: x4 :: x5 :: x6 :: x7 :: x8 :: .null :: r) st h Q) : Wp G d M pc (x0 :: x1 :: x2 :: x3 :: x4 :: x5 :: x6 :: x7 :: x8 :: w :: r) (.null :: st) h Q := r_s hf rfl k
theorem r_iinc_9 {x0 x1 x2 x3 x4 x5 x6 x7 x8 : Value} {r : List Value} {v c : Int32} (hf : M.1 pc = some (a_iinc 9 c nx)) (k : Wp G d M nx (x0 :: x1 :: x2 :: x3 :: x4 :: x5 :: x6 :: x7 :: x8 :: .int (v + c) :: r) st h Q) : Wp G d M pc (x0 :: x1 :: x2 :: x3 :: x4 :: x5 :: x6 :: x7 :: x8 :: .int v :: r) st h Q := r_s hf rfl k
theorem r_iload_10 {x0 x1 x2 x3 x4 x5 x6 x7 x8 x9 : Value} {r : List Value} {v : Int32} (hf : M.1 pc = some (a_iload 10 nx)) (k : Wp G d M nx (x0 :: x1 :: x2 :: x3 :: x4 :: x5 :: x6 :: x7 :: x8 :: x9 :: .int v :: r) (.int v :: st) h Q) : Wp G d M pc (x0 :: x1 :: x2 :: x3 :: x4 :: x5 :: x6 :: x7 :: x8 :: x9 :: .int v :: r) st h Q := r_s hf rfl k
theorem r_aload_10 {x0 x1 x2 x3 x4 x5 x6 x7 x8 x9 : Value} {r : List Value} {v : Nat} (hf : M.1 pc = some (a_aload 10 nx)) (k : Wp G d M nx (x0 :: x1 :: x2 :: x3 :: x4 :: x5 :: x6 :: x7 :: x8 :: x9 :: .ref v :: r) (.ref v :: st) h Q) : Wp G d M pc (x0 :: x1 :: x2 :: x3 :: x4 :: x5 :: x6 :: x7 :: x8 :: x9 :: .ref v :: r) st h Q := r_s hf rfl k
theorem r_aloadN_10 {x0 x1 x2 x3 x4 x5 x6 x7 x8 x9 : Value} {r : List Value} (hf : M.1 pc = some (a_aload 10 nx)) (k : Wp G d M nx (x0 :: x1 :: x2 :: x3 :: x4 :: x5 :: x6 :: x7 :: x8 :: x9 :: .null :: r) (.null :: st) h Q) : Wp G d M pc (x0 :: x1 :: x2 :: x3 :: x4 :: x5 :: x6 :: x7 :: x8 :: x9 :: .null :: r) st h Q := r_s hf rfl k
theorem r_istore_10 {x0 x1 x2 x3 x4 x5 x6 x7 x8 x9 : Value} {r : List Value} {w : Value} {v : Int32} (hf : M.1 pc = some (a_istore 10 nx)) (k : Wp G d M nx (x0 :: x1 :: x2 :: x3 :: x4 :: x5 :: x6 :: x7 :: x8 :: x9 :: .int v :: r) st h Q) : Wp G d M pc (x0 :: x1 :: x2 :: x3 :: x4 :: x5 :: x6 :: x7 :: x8 :: x9 :: w :: r) (.int v :: st) h Q := r_s hf rfl k
theorem r_astore_10 {x0 x1 x2 x3 x4 x5 x6 x7 x8 x9 : Value} {r : List Value} {w : Value} {v : Nat} (hf : M.1 pc = some (a_astore 10 nx)) (k : Wp G d M nx (x0 :: x1 :: x2 :: x3 :: x4 :: x5 :: x6 :: x7 :: x8 :: x9 :: .ref v :: r) st h Q) : Wp G d M pc (x0 :: x1 :: x2 :: x3 :: x4 :: x5 :: x6 :: x7 :: x8 :: x9 :: w :: r) (.ref v :: st) h Q := r_s hf rfl k
theorem r_astoreN_10 {x0 x1 x2 x3 x4 x5 x6 x7 x8 x9 : Value} {r : List Value} {w : Value} (hf : M.1 pc = some (a_astore 10 nx)) (k : Wp G d M nx (x0 :: x1 :: x2 :: x3 :: x4 :: x5 :: x6 :: x7 :: x8 :: x9 :: .null :: r) st h Q) : Wp G d M pc (x0 :: x1 :: x2 :: x3 :: x4 :: x5 :: x6 :: x7 :: x8 :: x9 :: w :: r) (.null :: st) h Q := r_s hf rfl k
theorem r_iinc_10 {x0 x1 x2 x3 x4 x5 x6 x7 x8 x9 : Value} {r : List Value} {v c : Int32} (hf : M.1 pc = some (a_iinc 10 c nx)) (k : Wp G d M nx (x0 :: x1 :: x2 :: x3 :: x4 :: x5 :: x6 :: x7 :: x8 :: x9 :: .int (v + c) :: r) st h Q) : Wp G d M pc (x0 :: x1 :: x2 :: x3 :: x4 :: x5 :: x6 :: x7 :: x8 :: x9 :: .int v :: r) st h Q := r_s hf rfl k
theorem r_iload_11 {x0 x1 x2 x3 x4 x5 x6 x7 x8 x9 x10 : Value} {r : List Value} {v : Int32} (hf : M.1 pc = some (a_iload 11 nx)) (k : Wp G d M nx (x0 :: x1 :: x2 :: x3 :: x4 :: x5 :: x6 :: x7 :: x8 :: x9 :: x10 :: .int v :: r) (.int v :: st) h Q) : Wp G d M pc (x0 :: x1 :: x2 :: x3 :: x4 :: x5 :: x6 :: x7 :: x8 :: x9 :: x10 :: .int v :: r) st h Q := r_s hf rfl k
theorem r_aload_11 {x0 x1 x2 x3 x4 x5 x6 x7 x8 x9 x10 : Value} {r : List Value} {v : Nat} (hf : M.1 pc = some (a_aload 11 nx)) (k : Wp G d M nx (x0 :: x1 :: x2 :: x3 :: x4 :: x5 :: x6 :: x7 :: x8 :: x9 :: x10 :: .ref v :: r) (.ref v :: st) h Q) : Wp G d M pc (x0 :: x1 :: x2 :: x3 :: x4 :: x5 :: x6 :: x7 :: x8 :: x9 :: x10 :: .ref v :: r) st h Q := r_s hf rfl k
theorem r_aloadN_11 {x0 x1 x2 x3 x4 x5 x6 x7 x8 x9 x10 : Value} {r : List Value} (hf : M.1 pc = some (a_aload 11 nx)) (k : Wp G d M nx (x0 :: x1 :: x2 :: x3 :: x4 :: x5 :: x6 :: x7 :: x8 :: x9 :: x10 :: .null :: r) (.null :: st) h Q) : Wp G d M pc (x0 :: x1 :: x2 :: x3 :: x4 :: x5 :: x6 :: x7 :: x8 :: x9 :: x10 :: .null :: r) st h Q := r_s hf rfl k
theorem r_istore_11 {x0 x1 x2 x3 x4 x5 x6 x7 x8 x9 x10 : Value} {r : List Value} {w : Value} {v : Int32} (hf : M.1 pc = some (a_istore 11 nx)) (k : Wp G d M nx (x0 :: x1 :: x2 :: x3 :: x4 :: x5 :: x6 :: x7 :: x8 :: x9 :: x10 :: .int v :: r) st h Q) : Wp G d M pc (x0 :: x1 :: x2 :: x3 :: x4 :: x5 :: x6 :: x7 :: x8 :: x9 :: x10 :: w :: r) (.int v :: st) h Q := r_s hf rfl k
theorem r_astore_11 {x0 x1 x2 x3 x4 x5 x6 x7 x8 x9 x10 : Value} {r : List Value} {w : Value} {v : Nat} (hf : M.1 pc = some (a_astore 11 nx)) (k : Wp G d M nx (x0 :: x1 :: x2 :: x3 :: x4 :: x5 :: x6 :: x7 :: x8 :: x9 :: x10 :: .ref v :: r) st h Q) : Wp G d M pc (x0 :: x1 :: x2 :: x3 :: x4 :: x5 :: x6 :: x7 :: x8 :: x9 :: x10 :: w :: r) (.ref v :: st) h Q := r_s hf rfl k
theorem r_astoreN_11 {x0 x1 x2 x3 x4 x5 x6 x7 x8 x9 x10 : Value} {r : List Value} {w : Value} (hf : M.1 pc = some (a_astore 11 nx)) (k : Wp G d M nx (x0 :: x1 :: x2 :: x3 :: x4 :: x5 :: x6 :: x7 :: x8 :: x9 :: x10 :: .null :: r) st h Q) : Wp G d M pc (x0 :: x1 :: x2 :: x3 :: x4 :: x5 :: x6 :: x7 :: x8 :: x9 :: x10 :: w :: r) (.null :: st) h Q := r_s hf rfl k
theorem r_iinc_11 {x0 x1 x2 x3 x4 x5 x6 x7 x8 x9 x10 : Value} {r : List Value} {v c : Int32} (hf : M.1 pc = some (a_iinc 11 c nx)) (k : Wp G d M nx (x0 :: x1 :: x2 :: x3 :: x4 :: x5 :: x6 :: x7 :: x8 :: x9 :: x10 :: .int (v + c) :: r) st h Q) : Wp G d M pc (x0 :: x1 :: x2 :: x3 :: x4 :: x5 :: x6 :: x7 :: x8 :: x9 :: x10 :: .int v :: r) st h Q := r_s hf rfl k
theorem r_dup {x : Int32} (hf : M.1 pc = some (a_dup nx)) (k : Wp G d M nx L (.int x :: .int x :: st) h Q) : Wp G d M pc L (.int x :: st) h Q := r_s hf rfl k
theorem r_pop {x : Int32} (hf : M.1 pc = some (a_pop nx)) (k : Wp G d M nx L st h Q) : Wp G d M pc L (.int x :: st) h Q := r_s hf rfl k
theorem r_dupR {x : Nat} (hf : M.1 pc = some (a_dup nx)) (k : Wp G d M nx L (.ref x :: .ref x :: st) h Q) : Wp G d M pc L (.ref x :: st) h Q := r_s hf rfl k
theorem r_popR {x : Nat} (hf : M.1 pc = some (a_pop nx)) (k : Wp G d M nx L st h Q) : Wp G d M pc L (.ref x :: st) h Q := r_s hf rfl k
theorem r_dupN (hf : M.1 pc = some (a_dup nx)) (k : Wp G d M nx L (.null :: .null :: st) h Q) : Wp G d M pc L (.null :: st) h Q := r_s hf rfl k
theorem r_popN (hf : M.1 pc = some (a_pop nx)) (k : Wp G d M nx L st h Q) : Wp G d M pc L (.null :: st) h Q := r_s hf rfl k
theorem r_dup2 {a : Nat} {i : Int32} (hf : M.1 pc = some (a_dup2 nx)) (k : Wp G d M nx L (.int i :: .ref a :: .int i :: .ref a :: st) h Q) : Wp G d M pc L (.int i :: .ref a :: st) h Q := r_s hf rfl k
theorem r_dup_x1I {x : Int32} {a : Nat} (hf : M.1 pc = some (a_dup_x1 nx)) (k : Wp G d M nx L (.int x :: .ref a :: .int x :: st) h Q) : Wp G d M pc L (.int x :: .ref a :: st) h Q := r_s hf rfl k
theorem r_dup_x1R {x : Nat} {a : Nat} (hf : M.1 pc = some (a_dup_x1 nx)) (k : Wp G d M nx L (.ref x :: .ref a :: .ref x :: st) h Q) : Wp G d M pc L (.ref x :: .ref a :: st) h Q := r_s hf rfl k
theorem r_iadd {x y : Int32} (hf : M.1 pc = some (a_iadd nx)) (k : Wp G d M nx L (.int (x + y) :: st) h Q) : Wp G d M pc L (.int y :: .int x :: st) h Q := r_s hf rfl k
theorem r_isub {x y : Int32} (hf : M.1 pc = some (a_isub nx)) (k : Wp G d M nx L (.int (x - y) :: st) h Q) : Wp G d M pc L (.int y :: .int x :: st) h Q := r_s hf rfl k
theorem r_imul {x y : Int32} (hf : M.1 pc = some (a_imul nx)) (k : Wp G d M nx L (.int (x * y) :: st) h Q) : Wp G d M pc L (.int y :: .int x :: st) h Q := r_s hf rfl k
theorem r_iand {x y : Int32} (hf : M.1 pc = some (a_iand nx)) (k : Wp G d M nx L (.int (x &&& y) :: st) h Q) : Wp G d M pc L (.int y :: .int x :: st) h Q := r_s hf rfl k
theorem r_ior {x y : Int32} (hf : M.1 pc = some (a_ior nx)) (k : Wp G d M nx L (.int (x ||| y) :: st) h Q) : Wp G d M pc L (.int y :: .int x :: st) h Q := r_s hf rfl k
theorem r_ixor {x y : Int32} (hf : M.1 pc = some (a_ixor nx)) (k : Wp G d M nx L (.int (x ^^^ y) :: st) h Q) : Wp G d M pc L (.int y :: .int x :: st) h Q := r_s hf rfl k
theorem r_ishl {x y : Int32} (hf : M.1 pc = some (a_ishl nx)) (k : Wp G d M nx L (.int (x <<< (y &&& 31)) :: st) h Q) : Wp G d M pc L (.int y :: .int x :: st) h Q := r_s hf rfl k
theorem r_ishr {x y : Int32} (hf : M.1 pc = some (a_ishr nx)) (k : Wp G d M nx L (.int (x >>> (y &&& 31)) :: st) h Q) : Wp G d M pc L (.int y :: .int x :: st) h Q := r_s hf rfl k
theorem r_iushr {x y : Int32} (hf : M.1 pc = some (a_iushr nx)) (k : Wp G d M nx L (.int ((x.toUInt32 >>> (y.toUInt32 &&& Int32.toUInt32 31)).toInt32) :: st) h Q) : Wp G d M pc L (.int y :: .int x :: st) h Q := r_s hf rfl k
theorem r_idiv {x y : Int32} (hf : M.1 pc = some (a_idiv nx)) (hy : ¬ y = 0) (k : Wp G d M nx L (.int (x / y) :: st) h Q) : Wp G d M pc L (.int y :: .int x :: st) h Q := r_s hf (if_neg hy) k
theorem r_irem {x y : Int32} (hf : M.1 pc = some (a_irem nx)) (hy : ¬ y = 0) (k : Wp G d M nx L (.int (x - x / y * y) :: st) h Q) : Wp G d M pc L (.int y :: .int x :: st) h Q := r_s hf (if_neg hy) k
theorem r_ineg {x : Int32} (hf : M.1 pc = some (a_ineg nx)) (k : Wp G d M nx L (.int (-x) :: st) h Q) : Wp G d M pc L (.int x :: st) h Q := r_s hf rfl k
theorem r_i2l {x : Int32} (hf : M.1 pc = some (a_i2l nx)) (k : Wp G d M nx L (.long x.toInt64 :: st) h Q) : Wp G d M pc L (.int x :: st) h Q := r_s hf rfl k
theorem r_i2b {x : Int32} (hf : M.1 pc = some (a_i2b nx)) (k : Wp G d M nx L (.int x.toInt8.toInt32 :: st) h Q) : Wp G d M pc L (.int x :: st) h Q := r_s hf rfl k
theorem r_i2c {x : Int32} (hf : M.1 pc = some (a_i2c nx)) (k : Wp G d M nx L (.int (x.toUInt32 % 65536).toInt32 :: st) h Q) : Wp G d M pc L (.int x :: st) h Q := r_s hf rfl k
theorem r_lcmp {x y : Int64} (hf : M.1 pc = some (a_lcmp nx)) (k : Wp G d M nx L (.int (lg_cmp x y) :: st) h Q) : Wp G d M pc L (.long y :: .long x :: st) h Q := r_s hf rfl k
theorem r_ifeq {x : Int32} (hf : M.1 pc = some (a_ifeq tg nx)) (k1 : x = 0 → Wp G d M tg L st h Q) (k2 : ¬ x = 0 → Wp G d M nx L st h Q) : Wp G d M pc L (.int x :: st) h Q := by
  by_cases c : x = 0
  · exact r_s hf (if_pos c) (k1 c)
  · exact r_s hf (if_neg c) (k2 (c))
theorem r_ifeqT {x : Int32} (hf : M.1 pc = some (a_ifeq tg nx)) (hc : x = 0) (k : Wp G d M tg L st h Q) : Wp G d M pc L (.int x :: st) h Q := r_s hf (if_pos hc) k
theorem r_ifeqF {x : Int32} (hf : M.1 pc = some (a_ifeq tg nx)) (hc : ¬ x = 0) (k : Wp G d M nx L st h Q) : Wp G d M pc L (.int x :: st) h Q := r_s hf (if_neg hc) k
theorem r_iceq {x y : Int32} (hf : M.1 pc = some (a_iceq tg nx)) (k1 : x = y → Wp G d M tg L st h Q) (k2 : ¬ x = y → Wp G d M nx L st h Q) : Wp G d M pc L (.int y :: .int x :: st) h Q := by
  by_cases c : x = y
  · exact r_s hf (if_pos c) (k1 c)
  · exact r_s hf (if_neg c) (k2 (c))
theorem r_iceqT {x y : Int32} (hf : M.1 pc = some (a_iceq tg nx)) (hc : x = y) (k : Wp G d M tg L st h Q) : Wp G d M pc L (.int y :: .int x :: st) h Q := r_s hf (if_pos hc) k
theorem r_iceqF {x y : Int32} (hf : M.1 pc = some (a_iceq tg nx)) (hc : ¬ x = y) (k : Wp G d M nx L st h Q) : Wp G d M pc L (.int y :: .int x :: st) h Q := r_s hf (if_neg hc) k
theorem r_ifne {x : Int32} (hf : M.1 pc = some (a_ifne tg nx)) (k1 : x ≠ 0 → Wp G d M tg L st h Q) (k2 : x = 0 → Wp G d M nx L st h Q) : Wp G d M pc L (.int x :: st) h Q := by
  by_cases c : x ≠ 0
  · exact r_s hf (if_pos c) (k1 c)
  · exact r_s hf (if_neg c) (k2 (Decidable.not_not.mp c))
theorem r_ifneT {x : Int32} (hf : M.1 pc = some (a_ifne tg nx)) (hc : x ≠ 0) (k : Wp G d M tg L st h Q) : Wp G d M pc L (.int x :: st) h Q := r_s hf (if_pos hc) k
theorem r_ifneF {x : Int32} (hf : M.1 pc = some (a_ifne tg nx)) (hc : x = 0) (k : Wp G d M nx L st h Q) : Wp G d M pc L (.int x :: st) h Q := r_s hf (if_neg (fun q => q hc)) k
theorem r_icne {x y : Int32} (hf : M.1 pc = some (a_icne tg nx)) (k1 : x ≠ y → Wp G d M tg L st h Q) (k2 : x = y → Wp G d M nx L st h Q) : Wp G d M pc L (.int y :: .int x :: st) h Q := by
  by_cases c : x ≠ y
  · exact r_s hf (if_pos c) (k1 c)
  · exact r_s hf (if_neg c) (k2 (Decidable.not_not.mp c))
theorem r_icneT {x y : Int32} (hf : M.1 pc = some (a_icne tg nx)) (hc : x ≠ y) (k : Wp G d M tg L st h Q) : Wp G d M pc L (.int y :: .int x :: st) h Q := r_s hf (if_pos hc) k
theorem r_icneF {x y : Int32} (hf : M.1 pc = some (a_icne tg nx)) (hc : x = y) (k : Wp G d M nx L st h Q) : Wp G d M pc L (.int y :: .int x :: st) h Q := r_s hf (if_neg (fun q => q hc)) k
theorem r_iflt {x : Int32} (hf : M.1 pc = some (a_iflt tg nx)) (k1 : x < 0 → Wp G d M tg L st h Q) (k2 : 0 ≤ x → Wp G d M nx L st h Q) : Wp G d M pc L (.int x :: st) h Q := by
  by_cases c : x < 0
  · exact r_s hf (if_pos c) (k1 c)
  · exact r_s hf (if_neg c) (k2 (Int32.not_lt.mp c))
theorem r_ifltT {x : Int32} (hf : M.1 pc = some (a_iflt tg nx)) (hc : x < 0) (k : Wp G d M tg L st h Q) : Wp G d M pc L (.int x :: st) h Q := r_s hf (if_pos hc) k
theorem r_ifltF {x : Int32} (hf : M.1 pc = some (a_iflt tg nx)) (hc : 0 ≤ x) (k : Wp G d M nx L st h Q) : Wp G d M pc L (.int x :: st) h Q := r_s hf (if_neg (Int32.not_lt.mpr hc)) k
theorem r_iclt {x y : Int32} (hf : M.1 pc = some (a_iclt tg nx)) (k1 : x < y → Wp G d M tg L st h Q) (k2 : y ≤ x → Wp G d M nx L st h Q) : Wp G d M pc L (.int y :: .int x :: st) h Q := by
  by_cases c : x < y
  · exact r_s hf (if_pos c) (k1 c)
  · exact r_s hf (if_neg c) (k2 (Int32.not_lt.mp c))
theorem r_icltT {x y : Int32} (hf : M.1 pc = some (a_iclt tg nx)) (hc : x < y) (k : Wp G d M tg L st h Q) : Wp G d M pc L (.int y :: .int x :: st) h Q := r_s hf (if_pos hc) k
theorem r_icltF {x y : Int32} (hf : M.1 pc = some (a_iclt tg nx)) (hc : y ≤ x) (k : Wp G d M nx L st h Q) : Wp G d M pc L (.int y :: .int x :: st) h Q := r_s hf (if_neg (Int32.not_lt.mpr hc)) k
theorem r_ifge {x : Int32} (hf : M.1 pc = some (a_ifge tg nx)) (k1 : 0 ≤ x → Wp G d M tg L st h Q) (k2 : x < 0 → Wp G d M nx L st h Q) : Wp G d M pc L (.int x :: st) h Q := by
  by_cases c : 0 ≤ x
  · exact r_s hf (if_pos c) (k1 c)
  · exact r_s hf (if_neg c) (k2 (Int32.not_le.mp c))
theorem r_ifgeT {x : Int32} (hf : M.1 pc = some (a_ifge tg nx)) (hc : 0 ≤ x) (k : Wp G d M tg L st h Q) : Wp G d M pc L (.int x :: st) h Q := r_s hf (if_pos hc) k
theorem r_ifgeF {x : Int32} (hf : M.1 pc = some (a_ifge tg nx)) (hc : x < 0) (k : Wp G d M nx L st h Q) : Wp G d M pc L (.int x :: st) h Q := r_s hf (if_neg (Int32.not_le.mpr hc)) k
theorem r_icge {x y : Int32} (hf : M.1 pc = some (a_icge tg nx)) (k1 : y ≤ x → Wp G d M tg L st h Q) (k2 : x < y → Wp G d M nx L st h Q) : Wp G d M pc L (.int y :: .int x :: st) h Q := by
  by_cases c : y ≤ x
  · exact r_s hf (if_pos c) (k1 c)
  · exact r_s hf (if_neg c) (k2 (Int32.not_le.mp c))
theorem r_icgeT {x y : Int32} (hf : M.1 pc = some (a_icge tg nx)) (hc : y ≤ x) (k : Wp G d M tg L st h Q) : Wp G d M pc L (.int y :: .int x :: st) h Q := r_s hf (if_pos hc) k
theorem r_icgeF {x y : Int32} (hf : M.1 pc = some (a_icge tg nx)) (hc : x < y) (k : Wp G d M nx L st h Q) : Wp G d M pc L (.int y :: .int x :: st) h Q := r_s hf (if_neg (Int32.not_le.mpr hc)) k
theorem r_ifgt {x : Int32} (hf : M.1 pc = some (a_ifgt tg nx)) (k1 : 0 < x → Wp G d M tg L st h Q) (k2 : x ≤ 0 → Wp G d M nx L st h Q) : Wp G d M pc L (.int x :: st) h Q := by
  by_cases c : 0 < x
  · exact r_s hf (if_pos c) (k1 c)
  · exact r_s hf (if_neg c) (k2 (Int32.not_lt.mp c))
theorem r_ifgtT {x : Int32} (hf : M.1 pc = some (a_ifgt tg nx)) (hc : 0 < x) (k : Wp G d M tg L st h Q) : Wp G d M pc L (.int x :: st) h Q := r_s hf (if_pos hc) k
theorem r_ifgtF {x : Int32} (hf : M.1 pc = some (a_ifgt tg nx)) (hc : x ≤ 0) (k : Wp G d M nx L st h Q) : Wp G d M pc L (.int x :: st) h Q := r_s hf (if_neg (Int32.not_lt.mpr hc)) k
theorem r_icgt {x y : Int32} (hf : M.1 pc = some (a_icgt tg nx)) (k1 : y < x → Wp G d M tg L st h Q) (k2 : x ≤ y → Wp G d M nx L st h Q) : Wp G d M pc L (.int y :: .int x :: st) h Q := by
  by_cases c : y < x
  · exact r_s hf (if_pos c) (k1 c)
  · exact r_s hf (if_neg c) (k2 (Int32.not_lt.mp c))
theorem r_icgtT {x y : Int32} (hf : M.1 pc = some (a_icgt tg nx)) (hc : y < x) (k : Wp G d M tg L st h Q) : Wp G d M pc L (.int y :: .int x :: st) h Q := r_s hf (if_pos hc) k
theorem r_icgtF {x y : Int32} (hf : M.1 pc = some (a_icgt tg nx)) (hc : x ≤ y) (k : Wp G d M nx L st h Q) : Wp G d M pc L (.int y :: .int x :: st) h Q := r_s hf (if_neg (Int32.not_lt.mpr hc)) k
theorem r_ifle {x : Int32} (hf : M.1 pc = some (a_ifle tg nx)) (k1 : x ≤ 0 → Wp G d M tg L st h Q) (k2 : 0 < x → Wp G d M nx L st h Q) : Wp G d M pc L (.int x :: st) h Q := by
  by_cases c : x ≤ 0
  · exact r_s hf (if_pos c) (k1 c)
  · exact r_s hf (if_neg c) (k2 (Int32.not_le.mp c))
theorem r_ifleT {x : Int32} (hf : M.1 pc = some (a_ifle tg nx)) (hc : x ≤ 0) (k : Wp G d M tg L st h Q) : Wp G d M pc L (.int x :: st) h Q := r_s hf (if_pos hc) k
theorem r_ifleF {x : Int32} (hf : M.1 pc = some (a_ifle tg nx)) (hc : 0 < x) (k : Wp G d M nx L st h Q) : Wp G d M pc L (.int x :: st) h Q := r_s hf (if_neg (Int32.not_le.mpr hc)) k
theorem r_icle {x y : Int32} (hf : M.1 pc = some (a_icle tg nx)) (k1 : x ≤ y → Wp G d M tg L st h Q) (k2 : y < x → Wp G d M nx L st h Q) : Wp G d M pc L (.int y :: .int x :: st) h Q := by
  by_cases c : x ≤ y
  · exact r_s hf (if_pos c) (k1 c)
  · exact r_s hf (if_neg c) (k2 (Int32.not_le.mp c))
theorem r_icleT {x y : Int32} (hf : M.1 pc = some (a_icle tg nx)) (hc : x ≤ y) (k : Wp G d M tg L st h Q) : Wp G d M pc L (.int y :: .int x :: st) h Q := r_s hf (if_pos hc) k
theorem r_icleF {x y : Int32} (hf : M.1 pc = some (a_icle tg nx)) (hc : y < x) (k : Wp G d M nx L st h Q) : Wp G d M pc L (.int y :: .int x :: st) h Q := r_s hf (if_neg (Int32.not_le.mpr hc)) k
theorem r_acneT {v w : Value} (hf : M.1 pc = some (a_acne tg nx)) (hs : am_same v w = some false) (k : Wp G d M tg L st h Q) : Wp G d M pc L (w :: v :: st) h Q := r_s hf (by simp only [a_acne, hs]) k
theorem r_acneF {v w : Value} (hf : M.1 pc = some (a_acne tg nx)) (hs : am_same v w = some true) (k : Wp G d M nx L st h Q) : Wp G d M pc L (w :: v :: st) h Q := r_s hf (by simp only [a_acne, hs]) k
theorem r_aceqT {v w : Value} (hf : M.1 pc = some (a_aceq tg nx)) (hs : am_same v w = some true) (k : Wp G d M tg L st h Q) : Wp G d M pc L (w :: v :: st) h Q := r_s hf (by simp only [a_aceq, hs]) k
theorem r_aceqF {v w : Value} (hf : M.1 pc = some (a_aceq tg nx)) (hs : am_same v w = some false) (k : Wp G d M nx L st h Q) : Wp G d M pc L (w :: v :: st) h Q := r_s hf (by simp only [a_aceq, hs]) k
theorem am_same_y (a : Nat) : am_same (.ref a) (.ref a) = some true := by simp [am_same]
theorem am_same_n {a b : Nat} (q : a ≠ b) : am_same (.ref a) (.ref b) = some false := by
  have e : Nat.beq a b = false := by
    cases z : Nat.beq a b with
    | false => rfl
    | true => exact absurd (Nat.eq_of_beq_eq_true z) q
  simp [am_same, e]
theorem r_ifnullT (hf : M.1 pc = some (a_ifnull tg nx)) (k : Wp G d M tg L st h Q) : Wp G d M pc L (.null :: st) h Q := r_s hf rfl k
theorem r_ifnullF {a : Nat} (hf : M.1 pc = some (a_ifnull tg nx)) (k : Wp G d M nx L st h Q) : Wp G d M pc L (.ref a :: st) h Q := r_s hf rfl k
theorem r_ifnonnullF (hf : M.1 pc = some (a_ifnonnull tg nx)) (k : Wp G d M nx L st h Q) : Wp G d M pc L (.null :: st) h Q := r_s hf rfl k
theorem r_ifnonnullT {a : Nat} (hf : M.1 pc = some (a_ifnonnull tg nx)) (k : Wp G d M tg L st h Q) : Wp G d M pc L (.ref a :: st) h Q := r_s hf rfl k
theorem r_goto (hf : M.1 pc = some (a_goto tg)) (k : Wp G d M tg L st h Q) : Wp G d M pc L st h Q := r_s hf rfl k
theorem r_sw {x : Int32} {ks : List (Int32 × Nat)} (hf : M.1 pc = some (a_sw ks tg)) (hs : am_sw x tg ks = nx) (k : Wp G d M nx L st h Q) : Wp G d M pc L (.int x :: st) h Q := r_s hf (by simp only [a_sw, hs]) k
theorem am_cc_r (c : Nat) : am_cc c c = true := by simp [am_cc]
theorem am_cc_o (c : Nat) : am_cc (c + 100) c = true := by simp [am_cc]
theorem r_getf {a c i : Nat} {fs : List Value} {v : Value} (hf : M.1 pc = some (a_getf c i nx)) (ha : h.1 a = some (.inr (c, fs))) (hv : am_ix fs i = some v) (k : Wp G d M nx L (v :: st) h Q) : Wp G d M pc L (.ref a :: st) h Q := r_s hf (by simp only [a_getf, ha, hv, am_cc_r, cond_true]) k
theorem r_getfO {a c i : Nat} {fs : List Value} {c0 : Nat} {v : Value} (hf : M.1 pc = some (a_getf c i nx)) (ha : h.1 a = some (.inr (c0, fs))) (hc : am_cc c0 c = true) (hv : am_ix fs i = some v) (k : Wp G d M nx L (v :: st) h Q) : Wp G d M pc L (.ref a :: st) h Q := r_s hf (by simp only [a_getf, ha, hv, hc, cond_true]) k
theorem r_globR {g a : Nat} (hf : M.1 pc = some (a_glob g nx)) (hg : G g = .ref a) (k : Wp G d M nx L (.ref a :: st) h Q) : Wp G d M pc L st h Q := r_s hf (by simp only [a_glob, hg]) k
theorem r_oinit {a : Nat} (hf : M.1 pc = some (a_oinit nx)) (hw : Nat.ble (am_wd st) 8 = true) (k : Wp G d M nx L st h Q) : Wp G d M pc L (.ref a :: st) h Q := r_s hf (by simp only [a_oinit, hw, cond_true]) k
theorem r_puti {a c i : Nat} {fs : List Value} {x : Int32} (hf : M.1 pc = some (a_puti c i nx)) (ha : h.1 a = some (.inr (c, fs))) (hl : Nat.blt i fs.length = true) (k : Wp G d M nx L st (am_set h a (.inr (c, am_st fs i (.int x)))) Q) : Wp G d M pc L (.int x :: .ref a :: st) h Q := r_s hf (by simp only [a_puti, am_puts, ha, hl, Nat.beq_refl, Bool.and_self, cond_true]) k
theorem r_putz {a c i : Nat} {fs : List Value} {x : Int32} (hf : M.1 pc = some (a_putz c i nx)) (ha : h.1 a = some (.inr (c, fs))) (hx : x = 0 ∨ x = 1) (hl : Nat.blt i fs.length = true) (k : Wp G d M nx L st (am_set h a (.inr (c, am_st fs i (.int x)))) Q) : Wp G d M pc L (.int x :: .ref a :: st) h Q := r_s hf (by simp only [a_putz, am_puts, ha, hl, Nat.beq_refl, Bool.and_self, cond_true, if_pos hx]) k
theorem r_putb {a c i : Nat} {fs : List Value} {x : Int32} (hf : M.1 pc = some (a_putb c i nx)) (ha : h.1 a = some (.inr (c, fs))) (hx : x = 0 ∨ x = 1) (hl : Nat.blt i fs.length = true) (k : Wp G d M nx L st (am_set h a (.inr (c, am_st fs i (.int x)))) Q) : Wp G d M pc L (.int x :: .ref a :: st) h Q := r_s hf (by simp only [a_putb, am_puts, ha, hl, Nat.beq_refl, Bool.and_self, cond_true, if_pos hx]) k
theorem r_puta {a c i : Nat} {fs : List Value} {x : Nat} (hf : M.1 pc = some (a_puta c i nx)) (ha : h.1 a = some (.inr (c, fs))) (hl : Nat.blt i fs.length = true) (k : Wp G d M nx L st (am_set h a (.inr (c, am_st fs i (.ref x)))) Q) : Wp G d M pc L (.ref x :: .ref a :: st) h Q := r_s hf (by simp only [a_puta, am_puts, ha, hl, Nat.beq_refl, Bool.and_self, cond_true]) k
theorem r_putaN {a c i : Nat} {fs : List Value} (hf : M.1 pc = some (a_puta c i nx)) (ha : h.1 a = some (.inr (c, fs))) (hl : Nat.blt i fs.length = true) (k : Wp G d M nx L st (am_set h a (.inr (c, am_st fs i (.null)))) Q) : Wp G d M pc L (.null :: .ref a :: st) h Q := r_s hf (by simp only [a_puta, am_puts, ha, hl, Nat.beq_refl, Bool.and_self, cond_true]) k
theorem r_new {c n : Nat} {fs : List Value} (hf : M.1 pc = some (a_new c fs nx)) (hn : fs.length = n) (k : Wp G d M nx L (.ref h.2.1 :: st) (am_new h (.inr (c, fs)) n) Q) : Wp G d M pc L st h Q := r_s hf (by subst hn; rfl) k
theorem am_mk_ok {n : Nat} (hn : n ≤ 1000000) : ¬ (nI n < 0 ∨ 1000000 < nI n) := fun q => q.elim (nI_pos (by omega)) (show ¬ nI 1000000 < nI n from nI_nlt hn (by omega))
theorem r_newi {t : Nat} {x : Int32} {n : Nat} (hf : M.1 pc = some (a_newi t nx)) (hx : x = nI n) (hn : n ≤ 1000000) (k : Wp G d M nx L (.ref h.2.1 :: st) (am_new h (.inl (t, n, .inl (fun _ => 0))) n) Q) : Wp G d M pc L (.int x :: st) h Q := r_s hf (by subst hx; simp only [a_newi, am_mk]; rw [if_neg (am_mk_ok hn), nI_clamp (by omega)]) k
theorem r_newl {x : Int32} {n : Nat} (hf : M.1 pc = some (a_newl nx)) (hx : x = nI n) (hn : n ≤ 1000000) (k : Wp G d M nx L (.ref h.2.1 :: st) (am_new h (.inl (3, n, .inr (.inl (fun _ => 0)))) n) Q) : Wp G d M pc L (.int x :: st) h Q := r_s hf (by subst hx; simp only [a_newl, am_mk]; rw [if_neg (am_mk_ok hn), nI_clamp (by omega)]) k
theorem r_newr {t : Nat} {x : Int32} {n : Nat} (hf : M.1 pc = some (a_newr t nx)) (hx : x = nI n) (hn : n ≤ 1000000) (k : Wp G d M nx L (.ref h.2.1 :: st) (am_new h (.inl (t, n, .inr (.inr (.inr (.inr (fun _ => none)))))) n) Q) : Wp G d M pc L (.int x :: st) h Q := r_s hf (by subst hx; simp only [a_newr, am_mk]; rw [if_neg (am_mk_ok hn), nI_clamp (by omega)]) k
theorem r_iald {a n : Nat} {i : Int32} {j : Nat} {f : Nat → Int32} (hf : M.1 pc = some (a_iald nx)) (ha : h.1 a = some (.inl (0, n, .inl f))) (hi : i = nI j) (hj : j < n) (hn : n < 2 ^ 31) (k : Wp G d M nx L (.int (f j) :: st) h Q) : Wp G d M pc L (.int i :: .ref a :: st) h Q := r_s hf (by subst hi; simp only [a_iald, ha]; rw [if_neg (nI_in hj hn), nI_clamp (Nat.lt_trans hj hn)]; rfl) k
theorem r_ialdO {a n : Nat} {i : Int32} {j : Nat} {f : Nat → Int32} (hf : M.1 pc = some (a_iald nx)) (ha : h.1 a = some (.inl (100, n, .inl f))) (hi : i = nI j) (hj : j < n) (hn : n < 2 ^ 31) (k : Wp G d M nx L (.int (f j) :: st) h Q) : Wp G d M pc L (.int i :: .ref a :: st) h Q := r_s hf (by subst hi; simp only [a_iald, ha]; rw [if_neg (nI_in hj hn), nI_clamp (Nat.lt_trans hj hn)]; rfl) k
theorem r_baldO {a n : Nat} {i : Int32} {j : Nat} {f : Nat → Int32} (hf : M.1 pc = some (a_bald nx)) (ha : h.1 a = some (.inl (102, n, .inl f))) (hi : i = nI j) (hj : j < n) (hn : n < 2 ^ 31) (k : Wp G d M nx L (.int (f j) :: st) h Q) : Wp G d M pc L (.int i :: .ref a :: st) h Q := r_s hf (by subst hi; simp only [a_bald, ha]; rw [if_neg (nI_in hj hn), nI_clamp (Nat.lt_trans hj hn)]; rfl) k
theorem r_zald {a n : Nat} {i : Int32} {j : Nat} {f : Nat → Int32} (hf : M.1 pc = some (a_bald nx)) (ha : h.1 a = some (.inl (1, n, .inl f))) (hi : i = nI j) (hj : j < n) (hn : n < 2 ^ 31) (k : Wp G d M nx L (.int (f j) :: st) h Q) : Wp G d M pc L (.int i :: .ref a :: st) h Q := r_s hf (by subst hi; simp only [a_bald, ha]; rw [if_neg (nI_in hj hn), nI_clamp (Nat.lt_trans hj hn)]; rfl) k
theorem r_bald {a n : Nat} {i : Int32} {j : Nat} {f : Nat → Int32} (hf : M.1 pc = some (a_bald nx)) (ha : h.1 a = some (.inl (2, n, .inl f))) (hi : i = nI j) (hj : j < n) (hn : n < 2 ^ 31) (k : Wp G d M nx L (.int (f j) :: st) h Q) : Wp G d M pc L (.int i :: .ref a :: st) h Q := r_s hf (by subst hi; simp only [a_bald, ha]; rw [if_neg (nI_in hj hn), nI_clamp (Nat.lt_trans hj hn)]; rfl) k
theorem r_lald {a n : Nat} {i : Int32} {j : Nat} {f : Nat → Int64} (hf : M.1 pc = some (a_lald nx)) (ha : h.1 a = some (.inl (3, n, .inr (.inl f)))) (hi : i = nI j) (hj : j < n) (hn : n < 2 ^ 31) (k : Wp G d M nx L (.long (f j) :: st) h Q) : Wp G d M pc L (.int i :: .ref a :: st) h Q := r_s hf (by subst hi; simp only [a_lald, ha]; rw [if_neg (nI_in hj hn), nI_clamp (Nat.lt_trans hj hn)]) k
theorem r_aald {a n : Nat} {i : Int32} {j : Nat} {t : Nat} {f : Nat → Option Nat} (hf : M.1 pc = some (a_aald nx)) (ha : h.1 a = some (.inl (t, n, .inr (.inr (.inr (.inr f)))))) (ht : Nat.blt 3 (am_z t) = true) (hi : i = nI j) (hj : j < n) (hn : n < 2 ^ 31) (k : Wp G d M nx L (va_rf (f j) :: st) h Q) : Wp G d M pc L (.int i :: .ref a :: st) h Q := r_s hf (by subst hi; simp only [a_aald, ha]; rw [if_neg (nI_in hj hn), nI_clamp (Nat.lt_trans hj hn), ht]; rfl) k
theorem r_iast {a n : Nat} {i : Int32} {j : Nat} {f : Nat → Int32} {x : Int32} (hf : M.1 pc = some (a_iast nx)) (ha : h.1 a = some (.inl (0, n, .inl f))) (hi : i = nI j) (hj : j < n) (hn : n < 2 ^ 31) (k : Wp G d M nx L st (am_set h a (.inl (0, n, .inl (upd f j x)))) Q) : Wp G d M pc L (.int x :: .int i :: .ref a :: st) h Q := r_s hf (by subst hi; simp only [a_iast, ha]; rw [if_neg (nI_in hj hn), nI_clamp (Nat.lt_trans hj hn)]) k
theorem r_zast {a n : Nat} {i : Int32} {j : Nat} {f : Nat → Int32} {x : Int32} (hf : M.1 pc = some (a_bast nx)) (ha : h.1 a = some (.inl (1, n, .inl f))) (hi : i = nI j) (hj : j < n) (hn : n < 2 ^ 31) (k : Wp G d M nx L st (am_set h a (.inl (1, n, .inl (upd f j (vp_nar .boolean x))))) Q) : Wp G d M pc L (.int x :: .int i :: .ref a :: st) h Q := r_s hf (by subst hi; simp only [a_bast, ha]; rw [if_neg (nI_in hj hn), nI_clamp (Nat.lt_trans hj hn)]) k
theorem r_bast {a n : Nat} {i : Int32} {j : Nat} {f : Nat → Int32} {x : Int32} (hf : M.1 pc = some (a_bast nx)) (ha : h.1 a = some (.inl (2, n, .inl f))) (hi : i = nI j) (hj : j < n) (hn : n < 2 ^ 31) (k : Wp G d M nx L st (am_set h a (.inl (2, n, .inl (upd f j (vp_nar .byte x))))) Q) : Wp G d M pc L (.int x :: .int i :: .ref a :: st) h Q := r_s hf (by subst hi; simp only [a_bast, ha]; rw [if_neg (nI_in hj hn), nI_clamp (Nat.lt_trans hj hn)]) k
theorem r_last {a n : Nat} {i : Int32} {j : Nat} {f : Nat → Int64} {x : Int64} (hf : M.1 pc = some (a_last nx)) (ha : h.1 a = some (.inl (3, n, .inr (.inl f)))) (hi : i = nI j) (hj : j < n) (hn : n < 2 ^ 31) (k : Wp G d M nx L st (am_set h a (.inl (3, n, .inr (.inl (vp_updL f j x))))) Q) : Wp G d M pc L (.long x :: .int i :: .ref a :: st) h Q := r_s hf (by subst hi; simp only [a_last, ha]; rw [if_neg (nI_in hj hn), nI_clamp (Nat.lt_trans hj hn)]) k
theorem r_aast {a n : Nat} {i : Int32} {j : Nat} {f : Nat → Option Nat} {b : Nat} {w : Nat × List Value} (hf : M.1 pc = some (a_aast nx)) (ha : h.1 a = some (.inl (4, n, .inr (.inr (.inr (.inr f)))))) (hb : h.1 b = some (.inr w)) (hi : i = nI j) (hj : j < n) (hn : n < 2 ^ 31) (k : Wp G d M nx L st (am_set h a (.inl (4, n, .inr (.inr (.inr (.inr (va_up f j (some b)))))))) Q) : Wp G d M pc L (.ref b :: .int i :: .ref a :: st) h Q := r_s hf (by subst hi; simp only [a_aast, am_el, ha, hb]; rw [if_neg (nI_in hj hn), nI_clamp (Nat.lt_trans hj hn)]) k
theorem r_aastN {a n : Nat} {i : Int32} {j : Nat} {f : Nat → Option Nat} (hf : M.1 pc = some (a_aast nx)) (ha : h.1 a = some (.inl (4, n, .inr (.inr (.inr (.inr f)))))) (hi : i = nI j) (hj : j < n) (hn : n < 2 ^ 31) (k : Wp G d M nx L st (am_set h a (.inl (4, n, .inr (.inr (.inr (.inr (va_up f j none))))))) Q) : Wp G d M pc L (.null :: .int i :: .ref a :: st) h Q := r_s hf (by subst hi; simp only [a_aast, am_el, ha]; rw [if_neg (nI_in hj hn), nI_clamp (Nat.lt_trans hj hn)]) k
theorem r_alen {a t n : Nat} {x : (Nat → Int32) ⊕ (Nat → Int64) ⊕ (Nat → UInt32) ⊕ (Nat → UInt64) ⊕ (Nat → Option Nat)} (hf : M.1 pc = some (a_arraylength nx)) (ha : h.1 a = some (.inl (t, n, x))) (k : Wp G d M nx L (.int (nI n) :: st) h Q) : Wp G d M pc L (.ref a :: st) h Q := r_s hf (by simp only [a_arraylength, ha]; rfl) k
theorem r_cast {a c : Nat} {cs : List Nat} {fs : List Value} (hf : M.1 pc = some (a_cast cs nx)) (ha : h.1 a = some (.inr (c, fs))) (hc : am_in c cs = true) (k : Wp G d M nx L (.ref a :: st) h Q) : Wp G d M pc L (.ref a :: st) h Q := r_s hf (by simp only [a_cast, ha, hc, cond_true]) k
theorem r_casta {a t : Nat} {x : vp_A} (hf : M.1 pc = some (a_casta t nx)) (ha : h.1 a = some (.inl (t, x))) (ht : Nat.blt t 7 = true) (k : Wp G d M nx L (.ref a :: st) h Q) : Wp G d M pc L (.ref a :: st) h Q := r_s hf (by simp only [a_casta, ha, ht, Nat.beq_refl, Bool.and_self, cond_true]) k
theorem r_inst {a c c0 : Nat} {fs : List Value} (hf : M.1 pc = some (a_inst c nx)) (ha : h.1 a = some (.inr (c0, fs))) (hc : am_cc c0 c = true) (k : Wp G d M nx L (.int 1 :: st) h Q) : Wp G d M pc L (.ref a :: st) h Q := r_s hf (by simp only [a_inst, ha, hc, cond_true]) k
theorem r_getc {a g : Nat} {x : vp_A} (hf : M.1 pc = some (a_getc g nx)) (ha : h.1 a = some (.inl (4, x))) (hw : Nat.ble (am_wd st) 8 = true) (k : Wp G d M nx L (G g :: st) h Q) : Wp G d M pc L (.ref a :: st) h Q := r_s hf (by simp only [a_getc, ha, hw, cond_true]) k
theorem r_clone {a t t0 n : Nat} {x : (Nat → Int32) ⊕ (Nat → Int64) ⊕ (Nat → UInt32) ⊕ (Nat → UInt64) ⊕ (Nat → Option Nat)} (hf : M.1 pc = some (a_clone t nx)) (ha : h.1 a = some (.inl (t0, n, x))) (ht : am_cq t0 t = true) (hw : Nat.ble (am_wd st) 8 = true) (k : Wp G d M nx L (.ref h.2.1 :: st) (am_new h (.inl (t, n, x)) n) Q) : Wp G d M pc L (.ref a :: st) h Q := r_s hf (by simp only [a_clone, ha, ht, hw, Bool.and_self, cond_true]) k
theorem r_copy {a b N1 N2 : Nat} {x y z : Int32} {s p n : Nat} {t : Nat} {f g : Nat → Int32} (hf : M.1 pc = some (a_copy nx)) (ht : Nat.blt t 3 = true) (ha : h.1 a = some (.inl (t, N1, .inl f))) (hb : h.1 b = some (.inl (t, N2, .inl g))) (hx : x = nI s) (hy : y = nI p) (hz : z = nI n) (h1 : s + n ≤ N1) (h2 : p + n ≤ N2) (h3 : N1 < 2 ^ 31) (h4 : N2 < 2 ^ 31) (hw : Nat.ble (am_wd st) 8 = true) (k : Wp G d M nx L st (am_set h b (.inl (t, N2, .inl (va_cpy f g s p n)))) Q) : Wp G d M pc L (.int z :: .int y :: .ref b :: .int x :: .ref a :: st) h Q := r_s hf (by subst hx hy hz; simp only [a_copy, ha, hb]; rw [if_neg (fun q => q.elim (nI_pos (by omega)) (fun q => q.elim (nI_pos (by omega)) (nI_pos (by omega)))), nI_clamp (n := s) (by omega), nI_clamp (n := p) (by omega), nI_clamp (n := n) (by omega), if_pos ⟨h1, h2⟩]; simp only [Nat.beq_refl, ht, hw, Bool.and_self, cond_true]) k
theorem r_copyq {a b N1 N2 : Nat} {x y z : Int32} {s p n : Nat} {f g : Nat → Option Nat} (hf : M.1 pc = some (a_copy nx)) (ha : h.1 a = some (.inl (4, N1, .inr (.inr (.inr (.inr f)))))) (hb : h.1 b = some (.inl (4, N2, .inr (.inr (.inr (.inr g)))))) (hx : x = nI s) (hy : y = nI p) (hz : z = nI n) (h1 : s + n ≤ N1) (h2 : p + n ≤ N2) (h3 : N1 < 2 ^ 31) (h4 : N2 < 2 ^ 31) (hw : Nat.ble (am_wd st) 8 = true) (k : Wp G d M nx L st (am_set h b (.inl (4, N2, .inr (.inr (.inr (.inr (va_cpy f g s p n))))))) Q) : Wp G d M pc L (.int z :: .int y :: .ref b :: .int x :: .ref a :: st) h Q := r_s hf (by subst hx hy hz; simp only [a_copy, ha, hb]; rw [if_neg (fun q => q.elim (nI_pos (by omega)) (fun q => q.elim (nI_pos (by omega)) (nI_pos (by omega)))), nI_clamp (n := s) (by omega), nI_clamp (n := p) (by omega), nI_clamp (n := n) (by omega), if_pos ⟨h1, h2⟩]; simp only [hw, cond_true]) k
theorem r_inv_0 {k : Nat} (hf : M.1 pc = some (a_inv k 0 nx)) (hw : (Nat.ble (am_wd st) 8 && am_1s []) = true) (hd : e < d) (hc : Wc G e k [] h Q1) (kk : ∀ R, Q1 R → Wr G d M pc nx L st Q R) : Wp G d M pc L (st) h Q := r_k (nx := nx) (L' := L) (rest := st) hf (by simp only [a_inv, a_invi, am_pop, hw, cond_true]) hd hc kk
theorem r_invP_0 {k : Nat} {v : Value} (hf : M.1 pc = some (a_inv k 0 nx)) (hw : (Nat.ble (am_wd st) 8 && am_1s []) = true) (hd : e < d) (hc : Vc G e k [] h v) (kk : Wp G d M nx L (v :: st) h Q) : Wp G d M pc L (st) h Q := r_k (nx := nx) (L' := L) (rest := st) hf (by simp only [a_inv, a_invi, am_pop, hw, cond_true]) hd hc (fun R q => by subst q; exact kk)
theorem r_invN_0 {k : Nat} (hf : M.1 pc = some (a_inv k 0 nx)) (hw : (Nat.ble (am_wd st) 8 && am_1s []) = true) (hd : e < d) (hc : Vn G e k [] h) (kk : Wp G d M nx L st h Q) : Wp G d M pc L (st) h Q := r_k (nx := nx) (L' := L) (rest := st) hf (by simp only [a_inv, a_invi, am_pop, hw, cond_true]) hd hc (fun R q => by subst q; exact kk)
theorem r_invi_0 {a : Nat} {k : Nat} (hf : M.1 pc = some (a_invi k 0 nx)) (hw : (Nat.ble (am_wd st) 8 && am_1s []) = true) (hd : e < d) (hc : Wc G e k [.ref a] h Q1) (kk : ∀ R, Q1 R → Wr G d M pc nx L st Q R) : Wp G d M pc L (.ref a :: st) h Q := r_k (nx := nx) (L' := L) (rest := st) hf (by simp only [a_inv, a_invi, am_pop, hw, cond_true]) hd hc kk
theorem r_invv_0 {a c : Nat} {fs : List Value} {ds : List (Nat × Nat)} {k : Nat} (hf : M.1 pc = some (a_invv ds 0 nx)) (ha : h.1 a = some (.inr (c, fs))) (hk : am_dp c ds = some k) (hw : (Nat.ble (am_wd st) 8 && am_1s []) = true) (hd : e < d) (hc : Wc G e k [.ref a] h Q1) (kk : ∀ R, Q1 R → Wr G d M pc nx L st Q R) : Wp G d M pc L (.ref a :: st) h Q := r_k (nx := nx) (L' := L) (rest := st) hf (by simp only [a_invv, am_pop, ha, hk, hw, cond_true]) hd hc kk
theorem r_invvP_0 {a c : Nat} {fs : List Value} {ds : List (Nat × Nat)} {k : Nat} {v : Value} (hf : M.1 pc = some (a_invv ds 0 nx)) (ha : h.1 a = some (.inr (c, fs))) (hk : am_dp c ds = some k) (hw : (Nat.ble (am_wd st) 8 && am_1s []) = true) (hd : e < d) (hc : Vc G e k [.ref a] h v) (kk : Wp G d M nx L (v :: st) h Q) : Wp G d M pc L (.ref a :: st) h Q := r_k (nx := nx) (L' := L) (rest := st) hf (by simp only [a_invv, am_pop, ha, hk, hw, cond_true]) hd hc (fun R q => by subst q; exact kk)
theorem r_invvN_0 {a c : Nat} {fs : List Value} {ds : List (Nat × Nat)} {k : Nat} (hf : M.1 pc = some (a_invv ds 0 nx)) (ha : h.1 a = some (.inr (c, fs))) (hk : am_dp c ds = some k) (hw : (Nat.ble (am_wd st) 8 && am_1s []) = true) (hd : e < d) (hc : Vn G e k [.ref a] h) (kk : Wp G d M nx L st h Q) : Wp G d M pc L (.ref a :: st) h Q := r_k (nx := nx) (L' := L) (rest := st) hf (by simp only [a_invv, am_pop, ha, hk, hw, cond_true]) hd hc (fun R q => by subst q; exact kk)
theorem r_inv_1 {k : Nat} {x1 : Value} (hf : M.1 pc = some (a_inv k 1 nx)) (hw : (Nat.ble (am_wd st) 8 && am_1s [x1]) = true) (hd : e < d) (hc : Wc G e k [x1] h Q1) (kk : ∀ R, Q1 R → Wr G d M pc nx L st Q R) : Wp G d M pc L (x1 :: st) h Q := r_k (nx := nx) (L' := L) (rest := st) hf (by simp only [a_inv, a_invi, am_pop, hw, cond_true]) hd hc kk
theorem r_invP_1 {k : Nat} {x1 : Value} {v : Value} (hf : M.1 pc = some (a_inv k 1 nx)) (hw : (Nat.ble (am_wd st) 8 && am_1s [x1]) = true) (hd : e < d) (hc : Vc G e k [x1] h v) (kk : Wp G d M nx L (v :: st) h Q) : Wp G d M pc L (x1 :: st) h Q := r_k (nx := nx) (L' := L) (rest := st) hf (by simp only [a_inv, a_invi, am_pop, hw, cond_true]) hd hc (fun R q => by subst q; exact kk)
theorem r_invN_1 {k : Nat} {x1 : Value} (hf : M.1 pc = some (a_inv k 1 nx)) (hw : (Nat.ble (am_wd st) 8 && am_1s [x1]) = true) (hd : e < d) (hc : Vn G e k [x1] h) (kk : Wp G d M nx L st h Q) : Wp G d M pc L (x1 :: st) h Q := r_k (nx := nx) (L' := L) (rest := st) hf (by simp only [a_inv, a_invi, am_pop, hw, cond_true]) hd hc (fun R q => by subst q; exact kk)
theorem r_invi_1 {a : Nat} {k : Nat} {x1 : Value} (hf : M.1 pc = some (a_invi k 1 nx)) (hw : (Nat.ble (am_wd st) 8 && am_1s [x1]) = true) (hd : e < d) (hc : Wc G e k [.ref a, x1] h Q1) (kk : ∀ R, Q1 R → Wr G d M pc nx L st Q R) : Wp G d M pc L (x1 :: .ref a :: st) h Q := r_k (nx := nx) (L' := L) (rest := st) hf (by simp only [a_inv, a_invi, am_pop, hw, cond_true]) hd hc kk
theorem r_invv_1 {a c : Nat} {fs : List Value} {ds : List (Nat × Nat)} {k : Nat} {x1 : Value} (hf : M.1 pc = some (a_invv ds 1 nx)) (ha : h.1 a = some (.inr (c, fs))) (hk : am_dp c ds = some k) (hw : (Nat.ble (am_wd st) 8 && am_1s [x1]) = true) (hd : e < d) (hc : Wc G e k [.ref a, x1] h Q1) (kk : ∀ R, Q1 R → Wr G d M pc nx L st Q R) : Wp G d M pc L (x1 :: .ref a :: st) h Q := r_k (nx := nx) (L' := L) (rest := st) hf (by simp only [a_invv, am_pop, ha, hk, hw, cond_true]) hd hc kk
theorem r_invvP_1 {a c : Nat} {fs : List Value} {ds : List (Nat × Nat)} {k : Nat} {x1 : Value} {v : Value} (hf : M.1 pc = some (a_invv ds 1 nx)) (ha : h.1 a = some (.inr (c, fs))) (hk : am_dp c ds = some k) (hw : (Nat.ble (am_wd st) 8 && am_1s [x1]) = true) (hd : e < d) (hc : Vc G e k [.ref a, x1] h v) (kk : Wp G d M nx L (v :: st) h Q) : Wp G d M pc L (x1 :: .ref a :: st) h Q := r_k (nx := nx) (L' := L) (rest := st) hf (by simp only [a_invv, am_pop, ha, hk, hw, cond_true]) hd hc (fun R q => by subst q; exact kk)
theorem r_invvN_1 {a c : Nat} {fs : List Value} {ds : List (Nat × Nat)} {k : Nat} {x1 : Value} (hf : M.1 pc = some (a_invv ds 1 nx)) (ha : h.1 a = some (.inr (c, fs))) (hk : am_dp c ds = some k) (hw : (Nat.ble (am_wd st) 8 && am_1s [x1]) = true) (hd : e < d) (hc : Vn G e k [.ref a, x1] h) (kk : Wp G d M nx L st h Q) : Wp G d M pc L (x1 :: .ref a :: st) h Q := r_k (nx := nx) (L' := L) (rest := st) hf (by simp only [a_invv, am_pop, ha, hk, hw, cond_true]) hd hc (fun R q => by subst q; exact kk)
theorem r_inv_2 {k : Nat} {x1 x2 : Value} (hf : M.1 pc = some (a_inv k 2 nx)) (hw : (Nat.ble (am_wd st) 8 && am_1s [x1, x2]) = true) (hd : e < d) (hc : Wc G e k [x1, x2] h Q1) (kk : ∀ R, Q1 R → Wr G d M pc nx L st Q R) : Wp G d M pc L (x2 :: x1 :: st) h Q := r_k (nx := nx) (L' := L) (rest := st) hf (by simp only [a_inv, a_invi, am_pop, hw, cond_true]) hd hc kk
theorem r_invP_2 {k : Nat} {x1 x2 : Value} {v : Value} (hf : M.1 pc = some (a_inv k 2 nx)) (hw : (Nat.ble (am_wd st) 8 && am_1s [x1, x2]) = true) (hd : e < d) (hc : Vc G e k [x1, x2] h v) (kk : Wp G d M nx L (v :: st) h Q) : Wp G d M pc L (x2 :: x1 :: st) h Q := r_k (nx := nx) (L' := L) (rest := st) hf (by simp only [a_inv, a_invi, am_pop, hw, cond_true]) hd hc (fun R q => by subst q; exact kk)
theorem r_invN_2 {k : Nat} {x1 x2 : Value} (hf : M.1 pc = some (a_inv k 2 nx)) (hw : (Nat.ble (am_wd st) 8 && am_1s [x1, x2]) = true) (hd : e < d) (hc : Vn G e k [x1, x2] h) (kk : Wp G d M nx L st h Q) : Wp G d M pc L (x2 :: x1 :: st) h Q := r_k (nx := nx) (L' := L) (rest := st) hf (by simp only [a_inv, a_invi, am_pop, hw, cond_true]) hd hc (fun R q => by subst q; exact kk)
theorem r_invi_2 {a : Nat} {k : Nat} {x1 x2 : Value} (hf : M.1 pc = some (a_invi k 2 nx)) (hw : (Nat.ble (am_wd st) 8 && am_1s [x1, x2]) = true) (hd : e < d) (hc : Wc G e k [.ref a, x1, x2] h Q1) (kk : ∀ R, Q1 R → Wr G d M pc nx L st Q R) : Wp G d M pc L (x2 :: x1 :: .ref a :: st) h Q := r_k (nx := nx) (L' := L) (rest := st) hf (by simp only [a_inv, a_invi, am_pop, hw, cond_true]) hd hc kk
theorem r_invv_2 {a c : Nat} {fs : List Value} {ds : List (Nat × Nat)} {k : Nat} {x1 x2 : Value} (hf : M.1 pc = some (a_invv ds 2 nx)) (ha : h.1 a = some (.inr (c, fs))) (hk : am_dp c ds = some k) (hw : (Nat.ble (am_wd st) 8 && am_1s [x1, x2]) = true) (hd : e < d) (hc : Wc G e k [.ref a, x1, x2] h Q1) (kk : ∀ R, Q1 R → Wr G d M pc nx L st Q R) : Wp G d M pc L (x2 :: x1 :: .ref a :: st) h Q := r_k (nx := nx) (L' := L) (rest := st) hf (by simp only [a_invv, am_pop, ha, hk, hw, cond_true]) hd hc kk
theorem r_invvP_2 {a c : Nat} {fs : List Value} {ds : List (Nat × Nat)} {k : Nat} {x1 x2 : Value} {v : Value} (hf : M.1 pc = some (a_invv ds 2 nx)) (ha : h.1 a = some (.inr (c, fs))) (hk : am_dp c ds = some k) (hw : (Nat.ble (am_wd st) 8 && am_1s [x1, x2]) = true) (hd : e < d) (hc : Vc G e k [.ref a, x1, x2] h v) (kk : Wp G d M nx L (v :: st) h Q) : Wp G d M pc L (x2 :: x1 :: .ref a :: st) h Q := r_k (nx := nx) (L' := L) (rest := st) hf (by simp only [a_invv, am_pop, ha, hk, hw, cond_true]) hd hc (fun R q => by subst q; exact kk)
theorem r_invvN_2 {a c : Nat} {fs : List Value} {ds : List (Nat × Nat)} {k : Nat} {x1 x2 : Value} (hf : M.1 pc = some (a_invv ds 2 nx)) (ha : h.1 a = some (.inr (c, fs))) (hk : am_dp c ds = some k) (hw : (Nat.ble (am_wd st) 8 && am_1s [x1, x2]) = true) (hd : e < d) (hc : Vn G e k [.ref a, x1, x2] h) (kk : Wp G d M nx L st h Q) : Wp G d M pc L (x2 :: x1 :: .ref a :: st) h Q := r_k (nx := nx) (L' := L) (rest := st) hf (by simp only [a_invv, am_pop, ha, hk, hw, cond_true]) hd hc (fun R q => by subst q; exact kk)
theorem r_inv_3 {k : Nat} {x1 x2 x3 : Value} (hf : M.1 pc = some (a_inv k 3 nx)) (hw : (Nat.ble (am_wd st) 8 && am_1s [x1, x2, x3]) = true) (hd : e < d) (hc : Wc G e k [x1, x2, x3] h Q1) (kk : ∀ R, Q1 R → Wr G d M pc nx L st Q R) : Wp G d M pc L (x3 :: x2 :: x1 :: st) h Q := r_k (nx := nx) (L' := L) (rest := st) hf (by simp only [a_inv, a_invi, am_pop, hw, cond_true]) hd hc kk
theorem r_invP_3 {k : Nat} {x1 x2 x3 : Value} {v : Value} (hf : M.1 pc = some (a_inv k 3 nx)) (hw : (Nat.ble (am_wd st) 8 && am_1s [x1, x2, x3]) = true) (hd : e < d) (hc : Vc G e k [x1, x2, x3] h v) (kk : Wp G d M nx L (v :: st) h Q) : Wp G d M pc L (x3 :: x2 :: x1 :: st) h Q := r_k (nx := nx) (L' := L) (rest := st) hf (by simp only [a_inv, a_invi, am_pop, hw, cond_true]) hd hc (fun R q => by subst q; exact kk)
theorem r_invN_3 {k : Nat} {x1 x2 x3 : Value} (hf : M.1 pc = some (a_inv k 3 nx)) (hw : (Nat.ble (am_wd st) 8 && am_1s [x1, x2, x3]) = true) (hd : e < d) (hc : Vn G e k [x1, x2, x3] h) (kk : Wp G d M nx L st h Q) : Wp G d M pc L (x3 :: x2 :: x1 :: st) h Q := r_k (nx := nx) (L' := L) (rest := st) hf (by simp only [a_inv, a_invi, am_pop, hw, cond_true]) hd hc (fun R q => by subst q; exact kk)
theorem r_invi_3 {a : Nat} {k : Nat} {x1 x2 x3 : Value} (hf : M.1 pc = some (a_invi k 3 nx)) (hw : (Nat.ble (am_wd st) 8 && am_1s [x1, x2, x3]) = true) (hd : e < d) (hc : Wc G e k [.ref a, x1, x2, x3] h Q1) (kk : ∀ R, Q1 R → Wr G d M pc nx L st Q R) : Wp G d M pc L (x3 :: x2 :: x1 :: .ref a :: st) h Q := r_k (nx := nx) (L' := L) (rest := st) hf (by simp only [a_inv, a_invi, am_pop, hw, cond_true]) hd hc kk
theorem r_invv_3 {a c : Nat} {fs : List Value} {ds : List (Nat × Nat)} {k : Nat} {x1 x2 x3 : Value} (hf : M.1 pc = some (a_invv ds 3 nx)) (ha : h.1 a = some (.inr (c, fs))) (hk : am_dp c ds = some k) (hw : (Nat.ble (am_wd st) 8 && am_1s [x1, x2, x3]) = true) (hd : e < d) (hc : Wc G e k [.ref a, x1, x2, x3] h Q1) (kk : ∀ R, Q1 R → Wr G d M pc nx L st Q R) : Wp G d M pc L (x3 :: x2 :: x1 :: .ref a :: st) h Q := r_k (nx := nx) (L' := L) (rest := st) hf (by simp only [a_invv, am_pop, ha, hk, hw, cond_true]) hd hc kk
theorem r_invvP_3 {a c : Nat} {fs : List Value} {ds : List (Nat × Nat)} {k : Nat} {x1 x2 x3 : Value} {v : Value} (hf : M.1 pc = some (a_invv ds 3 nx)) (ha : h.1 a = some (.inr (c, fs))) (hk : am_dp c ds = some k) (hw : (Nat.ble (am_wd st) 8 && am_1s [x1, x2, x3]) = true) (hd : e < d) (hc : Vc G e k [.ref a, x1, x2, x3] h v) (kk : Wp G d M nx L (v :: st) h Q) : Wp G d M pc L (x3 :: x2 :: x1 :: .ref a :: st) h Q := r_k (nx := nx) (L' := L) (rest := st) hf (by simp only [a_invv, am_pop, ha, hk, hw, cond_true]) hd hc (fun R q => by subst q; exact kk)
theorem r_invvN_3 {a c : Nat} {fs : List Value} {ds : List (Nat × Nat)} {k : Nat} {x1 x2 x3 : Value} (hf : M.1 pc = some (a_invv ds 3 nx)) (ha : h.1 a = some (.inr (c, fs))) (hk : am_dp c ds = some k) (hw : (Nat.ble (am_wd st) 8 && am_1s [x1, x2, x3]) = true) (hd : e < d) (hc : Vn G e k [.ref a, x1, x2, x3] h) (kk : Wp G d M nx L st h Q) : Wp G d M pc L (x3 :: x2 :: x1 :: .ref a :: st) h Q := r_k (nx := nx) (L' := L) (rest := st) hf (by simp only [a_invv, am_pop, ha, hk, hw, cond_true]) hd hc (fun R q => by subst q; exact kk)
theorem r_inv_4 {k : Nat} {x1 x2 x3 x4 : Value} (hf : M.1 pc = some (a_inv k 4 nx)) (hw : (Nat.ble (am_wd st) 8 && am_1s [x1, x2, x3, x4]) = true) (hd : e < d) (hc : Wc G e k [x1, x2, x3, x4] h Q1) (kk : ∀ R, Q1 R → Wr G d M pc nx L st Q R) : Wp G d M pc L (x4 :: x3 :: x2 :: x1 :: st) h Q := r_k (nx := nx) (L' := L) (rest := st) hf (by simp only [a_inv, a_invi, am_pop, hw, cond_true]) hd hc kk
theorem r_invP_4 {k : Nat} {x1 x2 x3 x4 : Value} {v : Value} (hf : M.1 pc = some (a_inv k 4 nx)) (hw : (Nat.ble (am_wd st) 8 && am_1s [x1, x2, x3, x4]) = true) (hd : e < d) (hc : Vc G e k [x1, x2, x3, x4] h v) (kk : Wp G d M nx L (v :: st) h Q) : Wp G d M pc L (x4 :: x3 :: x2 :: x1 :: st) h Q := r_k (nx := nx) (L' := L) (rest := st) hf (by simp only [a_inv, a_invi, am_pop, hw, cond_true]) hd hc (fun R q => by subst q; exact kk)
theorem r_invN_4 {k : Nat} {x1 x2 x3 x4 : Value} (hf : M.1 pc = some (a_inv k 4 nx)) (hw : (Nat.ble (am_wd st) 8 && am_1s [x1, x2, x3, x4]) = true) (hd : e < d) (hc : Vn G e k [x1, x2, x3, x4] h) (kk : Wp G d M nx L st h Q) : Wp G d M pc L (x4 :: x3 :: x2 :: x1 :: st) h Q := r_k (nx := nx) (L' := L) (rest := st) hf (by simp only [a_inv, a_invi, am_pop, hw, cond_true]) hd hc (fun R q => by subst q; exact kk)
theorem r_invi_4 {a : Nat} {k : Nat} {x1 x2 x3 x4 : Value} (hf : M.1 pc = some (a_invi k 4 nx)) (hw : (Nat.ble (am_wd st) 8 && am_1s [x1, x2, x3, x4]) = true) (hd : e < d) (hc : Wc G e k [.ref a, x1, x2, x3, x4] h Q1) (kk : ∀ R, Q1 R → Wr G d M pc nx L st Q R) : Wp G d M pc L (x4 :: x3 :: x2 :: x1 :: .ref a :: st) h Q := r_k (nx := nx) (L' := L) (rest := st) hf (by simp only [a_inv, a_invi, am_pop, hw, cond_true]) hd hc kk
theorem r_invv_4 {a c : Nat} {fs : List Value} {ds : List (Nat × Nat)} {k : Nat} {x1 x2 x3 x4 : Value} (hf : M.1 pc = some (a_invv ds 4 nx)) (ha : h.1 a = some (.inr (c, fs))) (hk : am_dp c ds = some k) (hw : (Nat.ble (am_wd st) 8 && am_1s [x1, x2, x3, x4]) = true) (hd : e < d) (hc : Wc G e k [.ref a, x1, x2, x3, x4] h Q1) (kk : ∀ R, Q1 R → Wr G d M pc nx L st Q R) : Wp G d M pc L (x4 :: x3 :: x2 :: x1 :: .ref a :: st) h Q := r_k (nx := nx) (L' := L) (rest := st) hf (by simp only [a_invv, am_pop, ha, hk, hw, cond_true]) hd hc kk
theorem r_invvP_4 {a c : Nat} {fs : List Value} {ds : List (Nat × Nat)} {k : Nat} {x1 x2 x3 x4 : Value} {v : Value} (hf : M.1 pc = some (a_invv ds 4 nx)) (ha : h.1 a = some (.inr (c, fs))) (hk : am_dp c ds = some k) (hw : (Nat.ble (am_wd st) 8 && am_1s [x1, x2, x3, x4]) = true) (hd : e < d) (hc : Vc G e k [.ref a, x1, x2, x3, x4] h v) (kk : Wp G d M nx L (v :: st) h Q) : Wp G d M pc L (x4 :: x3 :: x2 :: x1 :: .ref a :: st) h Q := r_k (nx := nx) (L' := L) (rest := st) hf (by simp only [a_invv, am_pop, ha, hk, hw, cond_true]) hd hc (fun R q => by subst q; exact kk)
theorem r_invvN_4 {a c : Nat} {fs : List Value} {ds : List (Nat × Nat)} {k : Nat} {x1 x2 x3 x4 : Value} (hf : M.1 pc = some (a_invv ds 4 nx)) (ha : h.1 a = some (.inr (c, fs))) (hk : am_dp c ds = some k) (hw : (Nat.ble (am_wd st) 8 && am_1s [x1, x2, x3, x4]) = true) (hd : e < d) (hc : Vn G e k [.ref a, x1, x2, x3, x4] h) (kk : Wp G d M nx L st h Q) : Wp G d M pc L (x4 :: x3 :: x2 :: x1 :: .ref a :: st) h Q := r_k (nx := nx) (L' := L) (rest := st) hf (by simp only [a_invv, am_pop, ha, hk, hw, cond_true]) hd hc (fun R q => by subst q; exact kk)
theorem r_inv_5 {k : Nat} {x1 x2 x3 x4 x5 : Value} (hf : M.1 pc = some (a_inv k 5 nx)) (hw : (Nat.ble (am_wd st) 8 && am_1s [x1, x2, x3, x4, x5]) = true) (hd : e < d) (hc : Wc G e k [x1, x2, x3, x4, x5] h Q1) (kk : ∀ R, Q1 R → Wr G d M pc nx L st Q R) : Wp G d M pc L (x5 :: x4 :: x3 :: x2 :: x1 :: st) h Q := r_k (nx := nx) (L' := L) (rest := st) hf (by simp only [a_inv, a_invi, am_pop, hw, cond_true]) hd hc kk
theorem r_invP_5 {k : Nat} {x1 x2 x3 x4 x5 : Value} {v : Value} (hf : M.1 pc = some (a_inv k 5 nx)) (hw : (Nat.ble (am_wd st) 8 && am_1s [x1, x2, x3, x4, x5]) = true) (hd : e < d) (hc : Vc G e k [x1, x2, x3, x4, x5] h v) (kk : Wp G d M nx L (v :: st) h Q) : Wp G d M pc L (x5 :: x4 :: x3 :: x2 :: x1 :: st) h Q := r_k (nx := nx) (L' := L) (rest := st) hf (by simp only [a_inv, a_invi, am_pop, hw, cond_true]) hd hc (fun R q => by subst q; exact kk)
theorem r_invN_5 {k : Nat} {x1 x2 x3 x4 x5 : Value} (hf : M.1 pc = some (a_inv k 5 nx)) (hw : (Nat.ble (am_wd st) 8 && am_1s [x1, x2, x3, x4, x5]) = true) (hd : e < d) (hc : Vn G e k [x1, x2, x3, x4, x5] h) (kk : Wp G d M nx L st h Q) : Wp G d M pc L (x5 :: x4 :: x3 :: x2 :: x1 :: st) h Q := r_k (nx := nx) (L' := L) (rest := st) hf (by simp only [a_inv, a_invi, am_pop, hw, cond_true]) hd hc (fun R q => by subst q; exact kk)
theorem r_invi_5 {a : Nat} {k : Nat} {x1 x2 x3 x4 x5 : Value} (hf : M.1 pc = some (a_invi k 5 nx)) (hw : (Nat.ble (am_wd st) 8 && am_1s [x1, x2, x3, x4, x5]) = true) (hd : e < d) (hc : Wc G e k [.ref a, x1, x2, x3, x4, x5] h Q1) (kk : ∀ R, Q1 R → Wr G d M pc nx L st Q R) : Wp G d M pc L (x5 :: x4 :: x3 :: x2 :: x1 :: .ref a :: st) h Q := r_k (nx := nx) (L' := L) (rest := st) hf (by simp only [a_inv, a_invi, am_pop, hw, cond_true]) hd hc kk
theorem r_invv_5 {a c : Nat} {fs : List Value} {ds : List (Nat × Nat)} {k : Nat} {x1 x2 x3 x4 x5 : Value} (hf : M.1 pc = some (a_invv ds 5 nx)) (ha : h.1 a = some (.inr (c, fs))) (hk : am_dp c ds = some k) (hw : (Nat.ble (am_wd st) 8 && am_1s [x1, x2, x3, x4, x5]) = true) (hd : e < d) (hc : Wc G e k [.ref a, x1, x2, x3, x4, x5] h Q1) (kk : ∀ R, Q1 R → Wr G d M pc nx L st Q R) : Wp G d M pc L (x5 :: x4 :: x3 :: x2 :: x1 :: .ref a :: st) h Q := r_k (nx := nx) (L' := L) (rest := st) hf (by simp only [a_invv, am_pop, ha, hk, hw, cond_true]) hd hc kk
theorem r_invvP_5 {a c : Nat} {fs : List Value} {ds : List (Nat × Nat)} {k : Nat} {x1 x2 x3 x4 x5 : Value} {v : Value} (hf : M.1 pc = some (a_invv ds 5 nx)) (ha : h.1 a = some (.inr (c, fs))) (hk : am_dp c ds = some k) (hw : (Nat.ble (am_wd st) 8 && am_1s [x1, x2, x3, x4, x5]) = true) (hd : e < d) (hc : Vc G e k [.ref a, x1, x2, x3, x4, x5] h v) (kk : Wp G d M nx L (v :: st) h Q) : Wp G d M pc L (x5 :: x4 :: x3 :: x2 :: x1 :: .ref a :: st) h Q := r_k (nx := nx) (L' := L) (rest := st) hf (by simp only [a_invv, am_pop, ha, hk, hw, cond_true]) hd hc (fun R q => by subst q; exact kk)
theorem r_invvN_5 {a c : Nat} {fs : List Value} {ds : List (Nat × Nat)} {k : Nat} {x1 x2 x3 x4 x5 : Value} (hf : M.1 pc = some (a_invv ds 5 nx)) (ha : h.1 a = some (.inr (c, fs))) (hk : am_dp c ds = some k) (hw : (Nat.ble (am_wd st) 8 && am_1s [x1, x2, x3, x4, x5]) = true) (hd : e < d) (hc : Vn G e k [.ref a, x1, x2, x3, x4, x5] h) (kk : Wp G d M nx L st h Q) : Wp G d M pc L (x5 :: x4 :: x3 :: x2 :: x1 :: .ref a :: st) h Q := r_k (nx := nx) (L' := L) (rest := st) hf (by simp only [a_invv, am_pop, ha, hk, hw, cond_true]) hd hc (fun R q => by subst q; exact kk)
theorem r_inv_6 {k : Nat} {x1 x2 x3 x4 x5 x6 : Value} (hf : M.1 pc = some (a_inv k 6 nx)) (hw : (Nat.ble (am_wd st) 8 && am_1s [x1, x2, x3, x4, x5, x6]) = true) (hd : e < d) (hc : Wc G e k [x1, x2, x3, x4, x5, x6] h Q1) (kk : ∀ R, Q1 R → Wr G d M pc nx L st Q R) : Wp G d M pc L (x6 :: x5 :: x4 :: x3 :: x2 :: x1 :: st) h Q := r_k (nx := nx) (L' := L) (rest := st) hf (by simp only [a_inv, a_invi, am_pop, hw, cond_true]) hd hc kk
theorem r_invP_6 {k : Nat} {x1 x2 x3 x4 x5 x6 : Value} {v : Value} (hf : M.1 pc = some (a_inv k 6 nx)) (hw : (Nat.ble (am_wd st) 8 && am_1s [x1, x2, x3, x4, x5, x6]) = true) (hd : e < d) (hc : Vc G e k [x1, x2, x3, x4, x5, x6] h v) (kk : Wp G d M nx L (v :: st) h Q) : Wp G d M pc L (x6 :: x5 :: x4 :: x3 :: x2 :: x1 :: st) h Q := r_k (nx := nx) (L' := L) (rest := st) hf (by simp only [a_inv, a_invi, am_pop, hw, cond_true]) hd hc (fun R q => by subst q; exact kk)
theorem r_invN_6 {k : Nat} {x1 x2 x3 x4 x5 x6 : Value} (hf : M.1 pc = some (a_inv k 6 nx)) (hw : (Nat.ble (am_wd st) 8 && am_1s [x1, x2, x3, x4, x5, x6]) = true) (hd : e < d) (hc : Vn G e k [x1, x2, x3, x4, x5, x6] h) (kk : Wp G d M nx L st h Q) : Wp G d M pc L (x6 :: x5 :: x4 :: x3 :: x2 :: x1 :: st) h Q := r_k (nx := nx) (L' := L) (rest := st) hf (by simp only [a_inv, a_invi, am_pop, hw, cond_true]) hd hc (fun R q => by subst q; exact kk)
theorem r_invi_6 {a : Nat} {k : Nat} {x1 x2 x3 x4 x5 x6 : Value} (hf : M.1 pc = some (a_invi k 6 nx)) (hw : (Nat.ble (am_wd st) 8 && am_1s [x1, x2, x3, x4, x5, x6]) = true) (hd : e < d) (hc : Wc G e k [.ref a, x1, x2, x3, x4, x5, x6] h Q1) (kk : ∀ R, Q1 R → Wr G d M pc nx L st Q R) : Wp G d M pc L (x6 :: x5 :: x4 :: x3 :: x2 :: x1 :: .ref a :: st) h Q := r_k (nx := nx) (L' := L) (rest := st) hf (by simp only [a_inv, a_invi, am_pop, hw, cond_true]) hd hc kk
theorem r_invv_6 {a c : Nat} {fs : List Value} {ds : List (Nat × Nat)} {k : Nat} {x1 x2 x3 x4 x5 x6 : Value} (hf : M.1 pc = some (a_invv ds 6 nx)) (ha : h.1 a = some (.inr (c, fs))) (hk : am_dp c ds = some k) (hw : (Nat.ble (am_wd st) 8 && am_1s [x1, x2, x3, x4, x5, x6]) = true) (hd : e < d) (hc : Wc G e k [.ref a, x1, x2, x3, x4, x5, x6] h Q1) (kk : ∀ R, Q1 R → Wr G d M pc nx L st Q R) : Wp G d M pc L (x6 :: x5 :: x4 :: x3 :: x2 :: x1 :: .ref a :: st) h Q := r_k (nx := nx) (L' := L) (rest := st) hf (by simp only [a_invv, am_pop, ha, hk, hw, cond_true]) hd hc kk
theorem r_invvP_6 {a c : Nat} {fs : List Value} {ds : List (Nat × Nat)} {k : Nat} {x1 x2 x3 x4 x5 x6 : Value} {v : Value} (hf : M.1 pc = some (a_invv ds 6 nx)) (ha : h.1 a = some (.inr (c, fs))) (hk : am_dp c ds = some k) (hw : (Nat.ble (am_wd st) 8 && am_1s [x1, x2, x3, x4, x5, x6]) = true) (hd : e < d) (hc : Vc G e k [.ref a, x1, x2, x3, x4, x5, x6] h v) (kk : Wp G d M nx L (v :: st) h Q) : Wp G d M pc L (x6 :: x5 :: x4 :: x3 :: x2 :: x1 :: .ref a :: st) h Q := r_k (nx := nx) (L' := L) (rest := st) hf (by simp only [a_invv, am_pop, ha, hk, hw, cond_true]) hd hc (fun R q => by subst q; exact kk)
theorem r_invvN_6 {a c : Nat} {fs : List Value} {ds : List (Nat × Nat)} {k : Nat} {x1 x2 x3 x4 x5 x6 : Value} (hf : M.1 pc = some (a_invv ds 6 nx)) (ha : h.1 a = some (.inr (c, fs))) (hk : am_dp c ds = some k) (hw : (Nat.ble (am_wd st) 8 && am_1s [x1, x2, x3, x4, x5, x6]) = true) (hd : e < d) (hc : Vn G e k [.ref a, x1, x2, x3, x4, x5, x6] h) (kk : Wp G d M nx L st h Q) : Wp G d M pc L (x6 :: x5 :: x4 :: x3 :: x2 :: x1 :: .ref a :: st) h Q := r_k (nx := nx) (L' := L) (rest := st) hf (by simp only [a_invv, am_pop, ha, hk, hw, cond_true]) hd hc (fun R q => by subst q; exact kk)
theorem r_vret (hf : M.1 pc = some a_vret) (hq : Q (.inl (none, h))) : Wp G d M pc L [] h Q := r_qr hf rfl hq
theorem r_iret {x : Int32} (hf : M.1 pc = some a_iret) (hq : Q (.inl (some (.int x), h))) : Wp G d M pc L [.int x] h Q := r_qr hf rfl hq
theorem r_zret {x : Int32} (hf : M.1 pc = some a_zret) (hx : x = 0 ∨ x = 1) (hq : Q (.inl (some (.int x), h))) : Wp G d M pc L [.int x] h Q := r_qr hf (if_pos hx) hq
theorem r_bret {x : Int32} (hf : M.1 pc = some a_bret) (hx : x = 0 ∨ x = 1) (hq : Q (.inl (some (.int x), h))) : Wp G d M pc L [.int x] h Q := r_qr hf (if_pos hx) hq
theorem r_cret {x : Int32} (hf : M.1 pc = some a_cret) (hx : x = (x.toUInt32 % 65536).toInt32) (hq : Q (.inl (some (.int x), h))) : Wp G d M pc L [.int x] h Q := r_qr hf (if_pos hx) hq
theorem r_aret {x : Nat} (hf : M.1 pc = some a_aret) (hq : Q (.inl (some (.ref x), h))) : Wp G d M pc L [.ref x] h Q := r_qr hf rfl hq
theorem r_aretN (hf : M.1 pc = some a_aret) (hq : Q (.inl (some .null, h))) : Wp G d M pc L [.null] h Q := r_qr hf rfl hq
theorem r_athrow {a c : Nat} {fs : List Value} (hf : M.1 pc = some a_athrow) (ha : h.1 a = some (.inr (c, fs))) (hc : (Nat.ble 17 c && Nat.blt c 23) = true) (hn : am_find pc c M.2.2 = none) (hq : Q (.inr (c, h))) : Wp G d M pc L (.ref a :: st) h Q := r_qt hf (by simp only [a_athrow, ha, hc, cond_true]) hn hq
theorem r_thr {c n : Nat} (hf : M.1 pc = some (a_thr c n)) (hw : Nat.ble (am_wd st) 8 = true) (hn : am_find pc c M.2.2 = none) (hq : Q (.inr (c, am_skip h n))) : Wp G d M pc L st h Q := r_qt hf (by simp only [a_thr, hw, cond_true]) hn hq
end
