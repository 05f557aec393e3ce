/-! LAYER 2: rows of handles in use, in order, and free ones -/
theorem cl_toInt {i : Int32} (h : 0 ≤ i) : (i.toNatClampNeg : Int) = i.toInt := by
  rw [tI_le] at h
  have h0 : (0 : Int32).toInt = 0 := rfl
  rw [tI_cl]
  omega
def OL (nx : Int32 → Int32) (first last free cnt M : Int32) (o f : List Int32) : Prop := seg nx first o (-1) ∧ seg nx free f (-1) ∧ last = o.getLastD (-1) ∧ (o ++ f).Nodup ∧ (∀ x, x ∈ o ++ f → 0 ≤ x ∧ x < M) ∧ (o ++ f).length = M.toNatClampNeg ∧ cnt.toInt = o.length
theorem OL_alloc {nx : Int32 → Int32} {a b c n M : Int32} {o f : List Int32} (H : OL nx a b c n M o f) (hn : n ≠ M) (hM : 0 ≤ M) : ∃ h f', f = h :: f' ∧ c = h ∧ 0 ≤ h ∧ h < M ∧ h ∉ o ∧ (b = -1 ∨ 0 ≤ b ∧ b < M ∧ b ≠ h) ∧ (∀ ny a', ny h = -1 → (b = -1 → a' = h ∧ ∀ x, 0 ≤ x → x < M → x ≠ h → ny x = nx x) → (b ≠ -1 → a' = a ∧ ny b = h ∧ ∀ x, 0 ≤ x → x < M → x ≠ h → x ≠ b → ny x = nx x) → OL ny a' h (nx h) (n + 1) M (o ++ [h]) f') := by
  obtain ⟨s1, s2, hl, nd, rng, len, cnt⟩ := H
  have eM := cl_toInt hM
  cases f with
  | nil =>
    exfalso
    apply hn
    rw [tI_eq]
    simp only [List.append_nil] at len
    omega
  | cons h f' =>
    have hh := rng h (by simp)
    have hno : h ∉ o := by
      rw [List.nodup_append] at nd
      exact fun q => nd.2.2 h q h List.mem_cons_self rfl
    have hcnt : (n + 1).toInt = ((o ++ [h]).length : Int) := by
      simp only [List.length_append, List.length_cons, List.length_nil] at len ⊢
      have := tI_rng M
      rw [tI_add] <;> simp only [show (1 : Int32).toInt = 1 from rfl] <;> omega
    have nd' : ((o ++ [h]) ++ f').Nodup := by simpa using nd
    have hf : h ∉ f' := by
      have := (List.nodup_append.mp nd).2.1
      exact (List.nodup_cons.mp this).1
    have hof : ∀ x, x ∈ f' → x ∉ o := by
      intro x hx q
      exact (List.nodup_append.mp nd).2.2 x q x (List.mem_cons_of_mem _ hx) rfl
    refine ⟨h, f', rfl, s2.1, hh.1, hh.2, hno, ?_, ?_⟩
    · rcases List.eq_nil_or_concat o with e | ⟨l, y, e⟩
      · left; rw [hl, e]; rfl
      · right
        subst e
        have hy := rng y (by simp)
        have : b = y := by rw [hl]; simp
        subst this
        exact ⟨hy.1, hy.2, fun q => hno (by rw [q]; simp)⟩
    · intro ny a' h1 h2 h3
      refine ⟨?_, ?_, by simp, nd', fun x hx => rng x (by simp at hx ⊢; rcases hx with hx | hx | hx <;> simp [hx]), by simpa using len, hcnt⟩
      · rcases List.eq_nil_or_concat o with e | ⟨l, y, e⟩
        · subst e
          have := h2 (by rw [hl]; rfl)
          exact ⟨this.1, h1⟩
        · subst e
          have hb : b = y := by rw [hl]; simp
          have hy := rng y (by simp)
          have := h3 (by lia)
          have yl : y ∉ l := by
            have q := (List.nodup_append.mp nd).1
            simp only [List.concat_eq_append] at q
            rw [List.nodup_append] at q
            exact fun w => q.2.2 y w y (by simp) rfl
          simp only [List.concat_eq_append] at s1 hno ⊢
          rw [this.1]
          refine seg_snoc s1 yl (fun q => hno (by simp [q])) (by rw [← hb]; exact this.2.1) h1 (fun x hx => ?_)
          have hx' := rng x (by simp [hx])
          exact this.2.2 x hx'.1 hx'.2 (fun q => hno (by rw [← q]; simp [hx])) (fun q => yl (by rw [← hb, ← q]; exact hx))
      · refine seg_congr s2.2 (fun x hx => ?_)
        have hx' := rng x (by simp [hx])
        have xh : x ≠ h := fun q => hf (by rw [← q]; exact hx)
        by_cases hb : b = -1
        · exact (h2 hb).2 x hx'.1 hx'.2 xh
        · refine (h3 hb).2.2 x hx'.1 hx'.2 xh (fun q => hof x hx ?_)
          rcases List.eq_nil_or_concat o with e | ⟨l, y, e⟩
          · exact absurd (by rw [hl, e]; rfl) hb
          · subst e
            have : b = y := by rw [hl]; simp
            rw [q, this]; simp
/-- rows of bytes one behind the other -/
def lay (f z : Int32 → Int32) (M : Int32) : Int32 → List Int32 → Int32 → Prop
  | a, [], b => a = b
  | a, x :: l, b => f x = a ∧ 0 ≤ z x ∧ a ≤ a + z x ∧ a + z x ≤ M ∧ lay f z M (a + z x) l b
theorem lay_congr {f z f' z' : Int32 → Int32} {M : Int32} : ∀ {l : List Int32} {a b : Int32}, lay f z M a l b → (∀ x, x ∈ l → f' x = f x ∧ z' x = z x) → lay f' z' M a l b
  | [], _, _, s, _ => s
  | x :: l, a, b, s, c => by
    obtain ⟨s1, s2, s3, s4, s5⟩ := s
    obtain ⟨c1, c2⟩ := c x List.mem_cons_self
    refine ⟨by rw [c1]; exact s1, by rw [c2]; exact s2, by rw [c2]; exact s3, by rw [c2]; exact s4, ?_⟩
    rw [c2]
    exact lay_congr s5 (fun y hy => c y (List.mem_cons_of_mem _ hy))
theorem lay_app {f z : Int32 → Int32} {M : Int32} : ∀ {l r : List Int32} {a b : Int32}, lay f z M a (l ++ r) b ↔ ∃ m, lay f z M a l m ∧ lay f z M m r b
  | [], r, a, b => ⟨fun s => ⟨a, rfl, s⟩, fun ⟨m, s, t⟩ => by cases s; exact t⟩
  | x :: l, r, a, b => by
    simp only [List.cons_append, lay]
    rw [lay_app]
    exact ⟨fun ⟨p, q, w, t, m, u, v⟩ => ⟨m, ⟨p, q, w, t, u⟩, v⟩, fun ⟨m, ⟨p, q, w, t, u⟩, v⟩ => ⟨p, q, w, t, m, u, v⟩⟩
theorem lay_le {f z : Int32 → Int32} {M : Int32} : ∀ {l : List Int32} {a b : Int32}, lay f z M a l b → a ≤ M → a ≤ b ∧ b ≤ M ∧ ∀ x, x ∈ l → a ≤ f x ∧ f x ≤ f x + z x ∧ f x + z x ≤ b ∧ 0 ≤ z x
  | [], a, b, s, h => by cases s; exact ⟨by lia, h, fun x hx => absurd hx (by simp)⟩
  | x :: l, a, b, s, h => by
    obtain ⟨s1, s2, s3, s4, s5⟩ := s
    obtain ⟨q1, q2, q3⟩ := lay_le s5 s4
    refine ⟨by lia, q2, fun y hy => ?_⟩
    rcases List.mem_cons.mp hy with e | e
    · subst e; exact ⟨by lia, by lia, by lia, s2⟩
    · have := q3 y e
      exact ⟨by lia, by lia, by lia, by lia⟩
