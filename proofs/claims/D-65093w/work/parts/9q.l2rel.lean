/-! LAYER 2: the two sides: pairs of handles, values -/
/-- two rows, one like the other -/
def F2 (R : Int32 → Int32 → Prop) : List Int32 → List Int32 → Prop
  | [], [] => True
  | x :: l, y :: m => R x y ∧ F2 R l m
  | _, _ => False
theorem F2_nil {R : Int32 → Int32 → Prop} : F2 R [] [] := trivial
theorem F2_len {R : Int32 → Int32 → Prop} : ∀ {l m : List Int32}, F2 R l m → l.length = m.length
  | [], [], _ => rfl
  | _ :: _, _ :: _, h => by simp only [List.length_cons]; rw [F2_len h.2]
  | [], _ :: _, h => h.elim
  | _ :: _, [], h => h.elim
theorem F2_mono {R Q : Int32 → Int32 → Prop} : ∀ {l m : List Int32}, F2 R l m → (∀ x y, x ∈ l → y ∈ m → R x y → Q x y) → F2 Q l m
  | [], [], _, _ => trivial
  | x :: l, y :: m, h, c => ⟨c x y List.mem_cons_self List.mem_cons_self h.1, F2_mono h.2 (fun a b ha hb => c a b (List.mem_cons_of_mem _ ha) (List.mem_cons_of_mem _ hb))⟩
  | [], _ :: _, h, _ => h.elim
  | _ :: _, [], h, _ => h.elim
theorem F2_l {R : Int32 → Int32 → Prop} : ∀ {l m : List Int32}, F2 R l m → ∀ x, x ∈ l → ∃ y, y ∈ m ∧ R x y
  | [], [], _, x, hx => absurd hx (by simp)
  | a :: l, b :: m, h, x, hx => by
    rcases List.mem_cons.mp hx with q | q
    · subst q; exact ⟨b, List.mem_cons_self, h.1⟩
    · obtain ⟨y, y1, y2⟩ := F2_l h.2 x q
      exact ⟨y, List.mem_cons_of_mem _ y1, y2⟩
  | [], _ :: _, h, _, _ => h.elim
  | _ :: _, [], h, _, _ => h.elim
theorem F2_r {R : Int32 → Int32 → Prop} : ∀ {l m : List Int32}, F2 R l m → ∀ y, y ∈ m → ∃ x, x ∈ l ∧ R x y
  | [], [], _, x, hx => absurd hx (by simp)
  | a :: l, b :: m, h, y, hy => by
    rcases List.mem_cons.mp hy with q | q
    · subst q; exact ⟨a, List.mem_cons_self, h.1⟩
    · obtain ⟨x, x1, x2⟩ := F2_r h.2 y q
      exact ⟨x, List.mem_cons_of_mem _ x1, x2⟩
  | [], _ :: _, h, _, _ => h.elim
  | _ :: _, [], h, _, _ => h.elim
theorem F2_app {R : Int32 → Int32 → Prop} : ∀ {l m l' m' : List Int32}, F2 R l m → F2 R l' m' → F2 R (l ++ l') (m ++ m')
  | [], [], _, _, _, h => h
  | _ :: _, _ :: _, _, _, h, h' => ⟨h.1, F2_app h.2 h'⟩
  | [], _ :: _, _, _, h, _ => h.elim
  | _ :: _, [], _, _, h, _ => h.elim
theorem F2_filter {R : Int32 → Int32 → Prop} {p q : Int32 → Bool} : ∀ {l m : List Int32}, F2 R l m → (∀ x y, x ∈ l → y ∈ m → R x y → p x = q y) → F2 R (l.filter p) (m.filter q)
  | [], [], _, _ => trivial
  | x :: l, y :: m, h, c => by
    have e := c x y List.mem_cons_self List.mem_cons_self h.1
    have ih := F2_filter h.2 (fun a b ha hb => c a b (List.mem_cons_of_mem _ ha) (List.mem_cons_of_mem _ hb))
    simp only [List.filter_cons, e]
    cases q y
    · simpa using ih
    · simpa using ⟨h.1, ih⟩
  | [], _ :: _, h, _ => h.elim
  | _ :: _, [], h, _ => h.elim
/-- two partners at one place: R holds of x with just one y, if the rows have none twice -/
theorem F2_at {R : Int32 → Int32 → Prop} : ∀ {l m : List Int32}, F2 R l m → ∀ A e B, l = A ++ e :: B → ∃ A' e' B', m = A' ++ e' :: B' ∧ R e e' ∧ F2 R A A' ∧ F2 R B B'
  | [], [], _, A, e, B, hl => by simp at hl
  | x :: l, y :: m, h, [], e, B, hl => by
    simp only [List.nil_append, List.cons.injEq] at hl
    obtain ⟨rfl, rfl⟩ := hl
    exact ⟨[], y, m, rfl, h.1, trivial, h.2⟩
  | x :: l, y :: m, h, a :: A, e, B, hl => by
    simp only [List.cons_append, List.cons.injEq] at hl
    obtain ⟨rfl, rfl⟩ := hl
    obtain ⟨A', e', B', h1, h2, h3, h4⟩ := F2_at h.2 A e B rfl
    exact ⟨y :: A', e', B', by rw [h1]; rfl, h2, ⟨h.1, h3⟩, h4⟩
  | [], _ :: _, h, _, _, _, _ => h.elim
  | _ :: _, [], h, _, _, _, _ => h.elim
/-- the world: pairs of made strings, of strings of texts, of tables, functions, boxes, coroutines -/
abbrev PL2 : Type := List (Int32 × Int32)
abbrev WD : Type := PL2 × PL2 × PL2 × PL2 × PL2 × PL2
def wS (w : WD) : PL2 := w.1
def wX (w : WD) : PL2 := w.2.1
def wT (w : WD) : PL2 := w.2.2.1
def wF (w : WD) : PL2 := w.2.2.2.1
def wB (w : WD) : PL2 := w.2.2.2.2.1
def wC (w : WD) : PL2 := w.2.2.2.2.2
/-- no handle twice on either side -/
def bij (l : PL2) : Prop := ∀ a b c d, (a, b) ∈ l → (c, d) ∈ l → (a = c ↔ b = d)
def wle (w w' : WD) : Prop := (∀ p, p ∈ wS w → p ∈ wS w') ∧ (∀ p, p ∈ wX w → p ∈ wX w') ∧ (∀ p, p ∈ wT w → p ∈ wT w') ∧ (∀ p, p ∈ wF w → p ∈ wF w') ∧ (∀ p, p ∈ wB w → p ∈ wB w') ∧ (∀ p, p ∈ wC w → p ∈ wC w')
theorem wle_rfl {w : WD} : wle w w := ⟨fun _ h => h, fun _ h => h, fun _ h => h, fun _ h => h, fun _ h => h, fun _ h => h⟩
theorem wle_tr {u v w : WD} (h : wle u v) (h' : wle v w) : wle u w := ⟨fun p q => h'.1 p (h.1 p q), fun p q => h'.2.1 p (h.2.1 p q), fun p q => h'.2.2.1 p (h.2.2.1 p q), fun p q => h'.2.2.2.1 p (h.2.2.2.1 p q), fun p q => h'.2.2.2.2.1 p (h.2.2.2.2.1 p q), fun p q => h'.2.2.2.2.2 p (h.2.2.2.2.2 p q)⟩
/-- values that are alike: nil, truths, numbers, strings, tables, functions (of the house, or made), coroutines, boxes -/
def VV (w : WD) (tx : Int32) (vx : Int64) (tm : Int32) (vm : Int64) : Prop :=
  (tx = 0 ∧ tm = 0 ∧ vx = 0 ∧ vm = 0) ∨ (tx = 1 ∧ tm = 1 ∧ vx = 0 ∧ vm = 0) ∨ (tx = 2 ∧ tm = 1 ∧ vx = 0 ∧ vm = 1) ∨ (tx = 3 ∧ tm = 2 ∧ vx = vm)
  ∨ (tx = 4 ∧ tm = 3 ∧ ∃ a b, vx = Int32.toInt64 a ∧ vm = Int32.toInt64 b ∧ ((a, b) ∈ wS w ∨ (a, b) ∈ wX w))
  ∨ (tx = 5 ∧ tm = 4 ∧ ∃ a b, vx = Int32.toInt64 a ∧ vm = Int32.toInt64 b ∧ (a, b) ∈ wT w)
  ∨ (tx = 6 ∧ tm = 5 ∧ ∃ a b, vx = Int32.toInt64 a ∧ vm = Int32.toInt64 b ∧ ((a, b) ∈ wF w ∨ (0 ≤ b ∧ b < 46 ∧ a = -1 - b)))
  ∨ (tx = 7 ∧ tm = 6 ∧ ∃ a b, vx = Int32.toInt64 a ∧ vm = Int32.toInt64 b ∧ ((a, b) ∈ wC w ∨ (a = 0 ∧ b = 120)))
  ∨ (tx = 8 ∧ tm = 7 ∧ ∃ a b : Int32, vx = Int32.toInt64 a ∧ vm = Int32.toInt64 b ∧ False)
theorem VV_mono {w w' : WD} {tx tm : Int32} {vx vm : Int64} (h : wle w w') (v : VV w tx vx tm vm) : VV w' tx vx tm vm := by
  obtain ⟨h1, h2, h3, h4, h5, h6⟩ := h
  rcases v with v | v | v | v | ⟨v1, v2, a, b, v3, v4, v5⟩ | ⟨v1, v2, a, b, v3, v4, v5⟩ | ⟨v1, v2, a, b, v3, v4, v5⟩ | ⟨v1, v2, a, b, v3, v4, v5⟩ | ⟨v1, v2, a, b, v3, v4, v5⟩
  · exact .inl v
  · exact .inr (.inl v)
  · exact .inr (.inr (.inl v))
  · exact .inr (.inr (.inr (.inl v)))
  · exact .inr (.inr (.inr (.inr (.inl ⟨v1, v2, a, b, v3, v4, v5.imp (h1 _) (h2 _)⟩))))
  · exact .inr (.inr (.inr (.inr (.inr (.inl ⟨v1, v2, a, b, v3, v4, h3 _ v5⟩)))))
  · exact .inr (.inr (.inr (.inr (.inr (.inr (.inl ⟨v1, v2, a, b, v3, v4, v5.imp (h4 _) id⟩))))))
  · exact .inr (.inr (.inr (.inr (.inr (.inr (.inr (.inl ⟨v1, v2, a, b, v3, v4, v5.imp (h6 _) id⟩)))))))
  · exact v5.elim
/-- no value is a box -/
theorem VV_8 {w : WD} {tx tm : Int32} {vx vm : Int64} (v : VV w tx vx tm vm) : tx ≠ 8 := by
  rcases v with v | v | v | v | v | v | v | v | ⟨v1, v2, a, b, v3, v4, v5⟩
  case inr.inr.inr.inr.inr.inr.inr.inr => exact v5.elim
  all_goals (rw [v.1]; decide)
theorem VV_tag {w : WD} {tx tm : Int32} {vx vm : Int64} (v : VV w tx vx tm vm) : 0 ≤ tx ∧ tx ≤ 8 ∧ 0 ≤ tm ∧ tm ≤ 7 ∧ (tx = 0 ↔ tm = 0) ∧ (tx = 3 ↔ tm = 2) ∧ (tx = 4 ↔ tm = 3) ∧ (tx = 5 ↔ tm = 4) ∧ (tx = 6 ↔ tm = 5) ∧ (tx = 7 ↔ tm = 6) ∧ (tx = 8 ↔ tm = 7) ∧ (tx < 3 → vx = 0) := by
  rcases v with v | v | v | v | v | v | v | v | v <;> obtain ⟨rfl, rfl, v⟩ := v <;> refine ⟨by decide, by decide, by decide, by decide, by decide, by decide, by decide, by decide, by decide, by decide, by decide, fun q => ?_⟩
  · exact v.1
  · exact v.1
  · exact v.1
  all_goals exact absurd q (by decide)
