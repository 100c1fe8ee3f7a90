/-! GLOBALS: constants, statics as the heap has them; length, charAt, hashCode -/
set_option maxRecDepth 100000
/-- an old string -/
def SO (h : am_H) (bs v : Nat) (w : List Int32) : Prop := ∃ (a : Nat) (f : Nat → Int32) (hs hz : Int32), (v < bs ∧ a < bs) ∧ h.1 v = some (.inr (107, [.ref a, .int 0, .int hs, .int hz])) ∧ h.1 a = some (.inl (102, w.length, .inl f)) ∧ (∀ i, i < w.length → f i = w.getD i 0) ∧ w.length ≤ 400
theorem SO.sa {h : am_H} {bs v : Nat} {w : List Int32} (q : SO h bs v w) : SA h v w := by
  obtain ⟨a, f, hs, hz, -, q1, q2, q3, q4⟩ := q
  exact ⟨107, a, 102, f, hs, hz, q1, Or.inr rfl, q2, Or.inr rfl, q3, q4⟩
theorem SO.lt {h : am_H} {bs v : Nat} {w : List Int32} (q : SO h bs v w) : v < bs := by
  obtain ⟨a, f, hs, hz, q0, -⟩ := q
  exact q0.1
theorem SO.keep {h h' : am_H} {P : Nat → Prop} {c s bs v : Nat} {w : List Int32} (q : SO h bs v w) (g : HF P c s h h') (hp : ∀ a, P a → bs ≤ a) : SO h' bs v w := by
  obtain ⟨a, f, hs, hz, q0, q1, q2, q3⟩ := q
  exact ⟨a, f, hs, hz, q0, g.k q1 (fun z => absurd (hp _ z) (by omega)), g.k q2 (fun z => absurd (hp _ z) (by omega)), q3⟩
def gsL : List (Nat × List Int32) := [(3, w_person), (4, w_stone), (5, w_slope), (6, w_porch), (7, w_limit), (8, w_hour), (9, w_back), (10, w_at), (11, w_goal), (12, w_of), (13, w_to), (14, w_worn), (15, w_by), (16, w_if), (17, w_or), (18, w_and), (19, w_not), (20, w_there), (21, w_light), (23, w_tire), (24, w_earn), (25, w_hurt), (26, w_who), (27, w_load), (28, w_place), (29, w_tired)]
def w_kind (k : Nat) : List Int32 := if k = 0 then w_tire else if k = 1 then w_earn else w_hurt
def w_fact (k : Nat) : List Int32 := if k = 0 then w_who else if k = 1 then w_load else if k = 2 then w_back else if k = 3 then w_place else if k = 4 then w_slope else if k = 5 then w_tired else w_hour
abbrev oar (f : Nat → Option Nat) : (Nat → Int32) ⊕ (Nat → Int64) ⊕ (Nat → UInt32) ⊕ (Nat → UInt64) ⊕ (Nat → Option Nat) := .inr (.inr (.inr (.inr f)))
/-- the kinds: their numbers in G, by their order -/
def gk (k : Nat) : Nat := if k = 0 then 1 else if k = 1 then 0 else 2
def KD (G : am_G) (bs : Nat) (h : am_H) : Prop := ∃ (a : Nat) (fd : Nat → Option Nat) (kd : Nat → Nat), G 30 = .ref a ∧ a < bs ∧ h.1 a = some (.inl (105, 3, oar fd)) ∧ (∀ i j, i < 3 → j < 3 → kd i = kd j → i = j) ∧ ∀ k, k < 3 → fd k = some (kd k) ∧ G (gk k) = .ref (kd k) ∧ kd k < bs ∧ ∃ v, h.1 (kd k) = some (.inr (123, [.ref v])) ∧ SO h bs v (w_kind k)
def FD (G : am_G) (bs : Nat) (h : am_H) : Prop := ∃ (a : Nat) (fd : Nat → Option Nat), G 22 = .ref a ∧ a < bs ∧ h.1 a = some (.inl (106, 7, oar fd)) ∧ ∀ k, k < 7 → ∃ b v, fd k = some b ∧ b < bs ∧ h.1 b = some (.inr (124, [.ref v, .int (nI k)])) ∧ SO h bs v (w_fact k)
def OG (G : am_G) (bs : Nat) (h : am_H) : Prop := (GT G ∧ (G 34 = .null ∨ ∃ a, G 34 = .ref a)) ∧ (∀ x ∈ gsL, ∃ v, G x.1 = .ref v ∧ SO h bs v x.2) ∧ (∃ a g, G 33 = .ref a ∧ a < bs ∧ h.1 a = some (.inl (104, 0, oar g))) ∧ (∃ a, G 37 = .ref a) ∧ KD G bs h ∧ FD G bs h
theorem OG.keep {G : am_G} {h h' : am_H} {P : Nat → Prop} {c s bs : Nat} (q : OG G bs h) (g : HF P c s h h') (hp : ∀ a, P a → bs ≤ a) : OG G bs h' := by
  obtain ⟨q1, q2, ⟨a3, g3, q31, q32, q33⟩, q4, ⟨a5, f5, k5, q51, q52, q53, q54, q55⟩, ⟨a6, f6, q61, q62, q63, q64⟩⟩ := q
  have no : ∀ a, a < bs → ¬ P a := fun a z y => absurd (hp a y) (by omega)
  refine ⟨q1, fun x hx => ?_, ⟨a3, g3, q31, q32, g.k q33 (no _ q32)⟩, q4, ⟨a5, f5, k5, q51, q52, g.k q53 (no _ q52), q54, fun k hk => ?_⟩, ⟨a6, f6, q61, q62, g.k q63 (no _ q62), fun k hk => ?_⟩⟩
  · obtain ⟨v, e1, e2⟩ := q2 x hx
    exact ⟨v, e1, e2.keep g hp⟩
  · obtain ⟨e1, e2, e3, v, e4, e5⟩ := q55 k hk
    exact ⟨e1, e2, e3, v, g.k e4 (no _ e3), e5.keep g hp⟩
  · obtain ⟨b, v, e1, e2, e3, e4⟩ := q64 k hk
    exact ⟨b, v, e1, e2, g.k e3 (no _ e2), e4.keep g hp⟩
theorem OG.gt {G : am_G} {h : am_H} {bs : Nat} (q : OG G bs h) : GT G := q.1.1
theorem OG.s {G : am_G} {h : am_H} {bs : Nat} (q : OG G bs h) (g : Nat) (w : List Int32) (hg : (g, w) ∈ gsL) : ∃ v, G g = .ref v ∧ SO h bs v w := q.2.1 (g, w) hg
def AS (w : List Int32) : Bool := w.all (fun x => decide (97 ≤ x) && decide (x ≤ 122))
theorem as_gs : ∀ x ∈ gsL, AS x.2 = true := by decide +kernel
theorem AS_at {w : List Int32} (q : AS w = true) {i : Nat} (hi : i < w.length) : ∃ x, 97 ≤ x ∧ x ≤ 122 ∧ w.getD i 0 = nI x := by
  have h1 := List.all_eq_true.mp q (w[i]) (List.getElem_mem hi)
  simp only [Bool.and_eq_true, decide_eq_true_eq] at h1
  rw [List.getD_eq_getElem?_getD, List.getElem?_eq_getElem hi]
  show ∃ x, _ ∧ _ ∧ w[i] = nI x
  generalize w[i] = y at h1
  obtain ⟨j, hj, e⟩ := nI_of2 (M := 122) (n := 122) rfl (Int32.not_lt.mpr (Int32.le_trans (by decide) h1.1)) h1.2
  subst e
  exact ⟨j, (nI_leI (a := 97) (by decide) (by omega)).mp h1.1, hj, rfl⟩
/-- hash of n bytes -/
def hvF (f : Nat → Int32) : Nat → Int32
  | 0 => 0
  | n + 1 => 31 * hvF f n + (f n &&& 255)
theorem hvF_congr {f g : Nat → Int32} : ∀ {n : Nat}, (∀ i, i < n → f i = g i) → hvF f n = hvF g n
  | 0, _ => rfl
  | n + 1, h => by rw [hvF, hvF, hvF_congr (fun i q => h i (by omega)), h n (by omega)]
def hsW (w : List Int32) : Int32 := hvF (fun i => w.getD i 0) w.length
section
variable {h h0 : am_H} {G : am_G} {s v : Nat} {w : List Int32} {d : Nat} {M : am_M} {pc nx : Nat} {L st : List Value} {Q : am_O → Prop}
theorem c_sgHash {a n : Nat} {f : Nat → Int32} (o : h.1 a = some (.inl (2, n, .inl f))) (hn : n ≤ 400) : Vc G 0 m_J7_signedHashCode [.int 0, .ref a, .int 0, .int (nI n)] h (.int (hvF f n)) := by
  refine wc_in mt_J7_signedHashCode rfl (L := [.int 0, .ref a, .int 0, .int (nI n), am_un, am_un]) rfl ?_
  refine r_iload_2 rfl ?_
  refine r_iload_3 rfl ?_
  refine r_iadd rfl ?_
  refine r_istore_4 rfl ?_
  refine r_iload_2 rfl ?_
  refine r_istore_5 rfl ?_
  rw [Int32.zero_add]
  refine wp_for n (fun j => [.int (hvF f j), .ref a, .int 0, .int (nI n), .int (nI n), .int (nI j)]) (fun j hj k => ?_) ?_
  · refine r_iload_5 rfl ?_
    refine r_iload_4 rfl ?_
    refine r_icgeF rfl (nI_lt hj (by omega)) ?_
    refine r_push rfl ?_
    refine r_iload_0 rfl ?_
    refine r_imul rfl ?_
    refine r_aload_1 rfl ?_
    refine r_iload_5 rfl ?_
    refine r_bald rfl (by assumption) (by rfl) (by first | assumption | omega) (by first | decide | omega) ?_
    refine r_push rfl ?_
    refine r_iand rfl ?_
    refine r_iadd rfl ?_
    refine r_istore_0 rfl ?_
    refine r_iinc_5 rfl ?_
    refine r_goto rfl ?_
    rw [nI_1]
    exact k
  · refine r_iload_5 rfl ?_
    refine r_iload_4 rfl ?_
    refine r_icgeT rfl (Int32.le_refl _) ?_
    refine r_iload_0 rfl ?_
    refine r_iret rfl ?_
    rfl
theorem c_hashL {a n : Nat} {f : Nat → Int32} (o : h.1 a = some (.inl (2, n, .inl f))) (hn : n ≤ 400) : Vc G 2 m_J10_hashCode [.ref a] h (.int (hvF f n)) := by
  have hv : Vc G 1 m_J7_vectorizedHashCode [.ref a, .int 0, .int (nI n), .int 0, .int 4] h (.int (hvF f n)) := by
    refine wc_in mt_J7_vectorizedHashCode rfl (L := [.ref a, .int 0, .int (nI n), .int 0, .int 4]) rfl ?_
    refine r_iload_4 rfl ?_
    refine r_sw (nx := 44) rfl rfl ?_
    refine r_iload_3 rfl ?_
    refine r_aload_0 rfl ?_
    refine r_casta rfl (o) rfl ?_
    refine r_iload_1 rfl ?_
    refine r_iload_2 rfl ?_
    refine r_invP_4 rfl rfl (by decide) (c_sgHash o hn) ?_
    refine r_goto rfl ?_
    refine r_iret rfl ?_
    rfl
  refine wc_in mt_J10_hashCode rfl (L := [.ref a]) rfl ?_
  refine r_aload_0 rfl ?_
  refine r_alen rfl o ?_
  by_cases z0 : n = 0
  · subst z0
    refine r_sw (nx := 28) rfl rfl ?_
    refine r_push rfl ?_
    refine r_goto rfl ?_
    refine r_iret rfl ?_
    rfl
  · by_cases z1 : n = 1
    · subst z1
      refine r_sw (nx := 32) rfl rfl ?_
      refine r_aload_0 rfl ?_
      refine r_push rfl ?_
      refine r_bald rfl (by assumption) (show (0 : Int32) = nI 0 from rfl) ((by omega)) (by first | decide | omega) ?_
      refine r_push rfl ?_
      refine r_iand rfl ?_
      refine r_goto rfl ?_
      refine r_iret rfl ?_
      rw [hvF, hvF]; simp
    · have e0 : ¬ nI n = 0 := fun z => z0 ((nI_eq (a := n) (b := 0) (by omega) (by decide)).mp z)
      have e1 : ¬ nI n = 1 := fun z => z1 ((nI_eq (a := n) (b := 1) (by omega) (by decide)).mp z)
      refine r_sw (nx := 42) rfl (by simp only [am_sw]; rw [if_neg e0, if_neg e1]) ?_
      refine r_aload_0 rfl ?_
      refine r_push rfl ?_
      refine r_aload_0 rfl ?_
      refine r_alen rfl (by assumption) ?_
      refine r_push rfl ?_
      refine r_push rfl ?_
      refine r_invP_5 rfl rfl (by decide) (hv) ?_
      refine r_iret rfl ?_
      rfl
theorem c_isL5 {c : Nat} {x y z : Value} (hc : c = 7 ∨ c = 107) (o : h.1 s = some (.inr (c, [x, .int 0, y, z]))) : Vc G 0 m_J5_isLatin1 [.ref s] h (.int 1) := by
  refine wc_in mt_J5_isLatin1 rfl (L := [.ref s]) rfl ?_
  refine r_push rfl ?_
  refine r_ifeqF rfl (by decide) ?_
  refine r_aload_0 rfl ?_
  refine r_getfO rfl o (cc7 hc) rfl ?_
  refine r_ifneF rfl rfl ?_
  refine r_push rfl ?_
  refine r_goto rfl ?_
  refine r_zret rfl (by first | decide | assumption) ?_
  rfl
theorem c_hashCode (w0 : HW h) (q : S7 h s w) : Ev G 3 m_J5_hashCode [.ref s] h (fun v h' => v = .int (hsW w) ∧ SA h' s w ∧ HF (fun a => a = s) 0 0 h h') := by
  obtain ⟨a, f, o, o1, hf, hn⟩ := q
  have hne : a ≠ s := fun z => by rw [z, o] at o1; cases o1
  have e1 : hvF f w.length = hsW w := hvF_congr hf
  refine wc_in mt_J5_hashCode rfl (L := [.ref s, am_un]) rfl ?_
  refine r_aload_0 rfl ?_
  refine r_getf rfl (by assumption) (by rfl) ?_
  refine r_istore_1 rfl ?_
  refine r_iload_1 rfl ?_
  refine r_ifneF rfl (rfl) ?_
  refine r_aload_0 rfl ?_
  refine r_getf rfl (by assumption) (by rfl) ?_
  refine r_ifneF rfl (rfl) ?_
  refine r_aload_0 rfl ?_
  refine r_invvP_0 rfl (by assumption) rfl rfl (by decide) (c_isL5 (Or.inl rfl) o) ?_
  refine r_ifeqF rfl (by decide) ?_
  refine r_aload_0 rfl ?_
  refine r_getf rfl (by assumption) (by rfl) ?_
  refine r_invP_1 rfl rfl (by decide) (c_hashL o1 hn) ?_
  refine r_goto rfl ?_
  refine r_istore_1 rfl ?_
  refine r_iload_1 rfl ?_
  refine r_ifne rfl (fun c_42 => ?_) (fun c_42 => ?_)
  · refine r_aload_0 rfl ?_
    refine r_iload_1 rfl ?_
    refine r_puti rfl (o) rfl ?_
    refine r_iload_1 rfl ?_
    refine r_iret rfl ?_
    rw [e1]
    exact ⟨_, _, rfl, rfl, ⟨7, a, 2, f, _, _, am_set_at, Or.inl rfl, am_set_k o1 hne, Or.inl rfl, hf, hn⟩, HF.set w0 o⟩
  · refine r_aload_0 rfl ?_
    refine r_push rfl ?_
    refine r_putz rfl (o) (by decide) rfl ?_
    refine r_goto rfl ?_
    refine r_iload_1 rfl ?_
    refine r_iret rfl ?_
    rw [e1]
    exact ⟨_, _, rfl, rfl, ⟨7, a, 2, f, _, _, am_set_at, Or.inl rfl, am_set_k o1 hne, Or.inl rfl, hf, hn⟩, HF.set w0 o⟩
theorem c_coder {c : Nat} {x y z : Value} (hc : c = 7 ∨ c = 107) (o : h.1 s = some (.inr (c, [x, .int 0, y, z]))) : Vc G 0 m_J5_coder [.ref s] h (.int 0) := by
  refine wc_in mt_J5_coder rfl (L := [.ref s]) rfl ?_
  refine r_push rfl ?_
  refine r_ifeqF rfl (by decide) ?_
  refine r_aload_0 rfl ?_
  refine r_getfO rfl o (cc7 hc) rfl ?_
  refine r_goto rfl ?_
  exact r_bret rfl (Or.inl rfl) rfl
theorem c_length (q : SA h s w) : Vc G 1 m_J5_length [.ref s] h (.int (nI w.length)) := by
  obtain ⟨c, a, t, f, hs, hz, o, hc, o1, ht, hf, hn⟩ := q
  refine wc_in mt_J5_length rfl (L := [.ref s]) rfl ?_
  refine r_aload_0 rfl ?_
  refine r_getfO rfl o (cc7 hc) rfl ?_
  refine r_alen rfl o1 ?_
  refine r_aload_0 rfl ?_
  refine r_invvC7 hc rfl rfl o rfl (by decide) (c_coder hc o) ?_
  refine r_ishr rfl ?_
  rw [shr0]
  exact r_iret rfl rfl
theorem chr_a : ∀ q, q < 128 → ((nI q &&& 255).toUInt32 % 65536).toInt32 = nI q ∧ nI q = ((nI q).toUInt32 % 65536).toInt32 := by decide +kernel
theorem c_charAt (hg : G 34 = .null ∨ ∃ a, G 34 = .ref a) (q : SA h s w) (ha : AS w = true) {i : Nat} (hi : i < w.length) : Vc G 4 m_J5_charAt [.ref s, .int (nI i)] h (.int (w.getD i 0)) := by
  obtain ⟨c, a, t, f, hs, hz, o, hc, o1, ht, hf, hn⟩ := q
  obtain ⟨x, hx1, hx2, ex⟩ := AS_at ha hi
  have ci : ∀ v, (v = .null ∨ ∃ a, v = .ref a) → Vc G 0 m_J11_checkIndex [.int (nI i), .int (nI w.length), v] h (.int (nI i)) := by
    intro v hv
    refine wc_in mt_J11_checkIndex rfl (L := [.int (nI i), .int (nI w.length), v]) rfl ?_
    refine r_iload_0 rfl ?_
    refine r_ifltF rfl (nI_pos' (by omega)) ?_
    refine r_iload_0 rfl ?_
    refine r_iload_1 rfl ?_
    refine r_icltT rfl (nI_lt hi (by omega)) ?_
    refine r_iload_0 rfl ?_
    refine r_iret rfl ?_
    rfl
  have c5 : Vn G 1 m_J5_checkIndex [.int (nI i), .int (nI w.length)] h := by
    refine wc_in mt_J5_checkIndex rfl (L := [.int (nI i), .int (nI w.length)]) rfl ?_
    refine r_iload_0 rfl ?_
    refine r_iload_1 rfl ?_
    refine r_glob rfl ?_
    refine r_invP_3 rfl (by rcases hg with z | ⟨b, z⟩ <;> rw [z] <;> rfl) (by decide) (ci _ hg) ?_
    refine r_pop rfl ?_
    refine r_vret rfl ?_
    rfl
  have c10 : Vc G 2 m_J10_charAt [.ref a, .int (nI i)] h (.int (w.getD i 0)) := by
    refine wc_in mt_J10_charAt rfl (L := [.ref a, .int (nI i)]) rfl ?_
    refine r_iload_1 rfl ?_
    refine r_aload_0 rfl ?_
    refine r_alen rfl o1 ?_
    refine r_invN_2 rfl rfl (by decide) c5 ?_
    refine r_aload_0 rfl ?_
    refine r_iload_1 rfl ?_
    refine r_baldC ht rfl o1 rfl hi (by omega) ?_
    refine r_push rfl ?_
    refine r_iand rfl ?_
    refine r_i2c rfl ?_
    rw [hf i hi, ex, (chr_a x (by omega)).1]
    exact r_cret rfl (chr_a x (by omega)).2 rfl
  refine wc_in mt_J5_charAt rfl (L := [.ref s, .int (nI i)]) rfl ?_
  refine r_aload_0 rfl ?_
  refine r_invvC7 hc rfl rfl o rfl (by decide) (c_isL5 hc o) ?_
  refine r_ifeqF rfl (by decide) ?_
  refine r_aload_0 rfl ?_
  refine r_getfO rfl o (cc7 hc) rfl ?_
  refine r_iload_1 rfl ?_
  refine r_invP_2 rfl rfl (by decide) c10 ?_
  exact r_cret rfl (by rw [ex]; exact (chr_a x (by omega)).2) rfl
end
