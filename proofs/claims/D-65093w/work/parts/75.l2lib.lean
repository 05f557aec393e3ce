/-! LAYER 2: loops that count, chains, bytes -/
/-- loops that count up to m: the step may use the rest; the bound n of rounds is met by any N that is great -/
theorem loop_up {lo m : Int32} (P : Nat → Int32 → Prop) (h : ∀ n i, lo ≤ i → i ≤ m → (i < m → P n (i + 1)) → P (n + 1) i) : ∀ (n : Nat) (i : Int32), lo ≤ i → i ≤ m → (m.toInt - i.toInt).toNat < n → P n i := by
  intro n
  induction n with
  | zero => intro i _ _ h3; omega
  | succ n ih =>
    intro i h1 h2 h3
    refine h n i h1 h2 (fun hlt => ih (i + 1) (by lia) (by lia) ?_)
    have e : (i + 1).toInt = i.toInt + 1 := by
      rw [tI_lt] at hlt
      have := tI_rng m
      have := tI_rng i
      rw [tI_add] <;> simp only [show (1 : Int32).toInt = 1 from rfl] <;> omega
    rw [tI_lt] at hlt
    omega
theorem loop_dn {lo m : Int32} (P : Nat → Int32 → Prop) (h : ∀ n i, lo ≤ i → i ≤ m → (lo < i → P n (i - 1)) → P (n + 1) i) : ∀ (n : Nat) (i : Int32), lo ≤ i → i ≤ m → (i.toInt - lo.toInt).toNat < n → P n i := by
  intro n
  induction n with
  | zero => intro i _ _ h3; omega
  | succ n ih =>
    intro i h1 h2 h3
    refine h n i h1 h2 (fun hlt => ih (i - 1) (by lia) (by lia) ?_)
    have e : (i - 1).toInt = i.toInt - 1 := by
      rw [tI_lt] at hlt
      have := tI_rng lo
      have := tI_rng i
      rw [tI_sub] <;> simp only [show (1 : Int32).toInt = 1 from rfl] <;> omega
    rw [tI_lt] at hlt
    omega
def BIG : Nat := 8589934592
theorem big_d {N : Nat} {a b : Int32} (h : BIG ≤ N) : (a.toInt - b.toInt).toNat < N := by
  have := tI_rng a
  have := tI_rng b
  simp only [BIG] at h
  omega
/-- chains of handles -/
def seg (nx : Int32 → Int32) : Int32 → List Int32 → Int32 → Prop
  | h, [], e => h = e
  | h, x :: l, e => h = x ∧ seg nx (nx x) l e
theorem seg_congr {nx ny : Int32 → Int32} : ∀ {l : List Int32} {h e : Int32}, seg nx h l e → (∀ x, x ∈ l → ny x = nx x) → seg ny h l e
  | [], _, _, s, _ => s
  | x :: l, _, _, s, c => ⟨s.1, by rw [c x List.mem_cons_self]; exact seg_congr s.2 (fun y hy => c y (List.mem_cons_of_mem _ hy))⟩
theorem seg_app {nx : Int32 → Int32} : ∀ {l r : List Int32} {h e : Int32}, seg nx h (l ++ r) e ↔ ∃ m, seg nx h l m ∧ seg nx m r e
  | [], r, h, e => ⟨fun s => ⟨h, rfl, s⟩, fun ⟨m, s, t⟩ => by cases s; exact t⟩
  | x :: l, r, h, e => by
    show (h = x ∧ seg nx (nx x) (l ++ r) e) ↔ ∃ m, (h = x ∧ seg nx (nx x) l m) ∧ seg nx m r e
    rw [seg_app]
    exact ⟨fun ⟨a, m, b, c⟩ => ⟨m, ⟨a, b⟩, c⟩, fun ⟨m, ⟨a, b⟩, c⟩ => ⟨a, m, b, c⟩⟩
theorem seg_nil {nx : Int32 → Int32} {h e : Int32} : seg nx h [] e ↔ h = e := Iff.rfl
theorem seg_cons {nx : Int32 → Int32} {h e x : Int32} {l : List Int32} : seg nx h (x :: l) e ↔ h = x ∧ seg nx (nx x) l e := Iff.rfl
theorem seg_len {nx : Int32 → Int32} {h e : Int32} {l : List Int32} (s : seg nx h l e) (hn : h ≠ e) : l ≠ [] := by
  intro c; subst c; exact hn s
/-- one more at the end -/
theorem seg_snoc {nx ny : Int32 → Int32} {l : List Int32} {h y z : Int32} (s : seg nx h (l ++ [y]) (-1)) (hy : y ∉ l) (hz : z ∉ l) (h1 : ny y = z) (h2 : ny z = -1) (ho : ∀ x, x ∈ l → ny x = nx x) : seg ny h (l ++ [y] ++ [z]) (-1) := by
  rw [seg_app] at s
  obtain ⟨m, s1, s2⟩ := s
  rw [List.append_assoc, seg_app]
  exact ⟨m, seg_congr s1 ho, s2.1, h1, h2⟩
theorem b_255 : ∀ i : Fin 32, 8 ≤ i.val → (255#32)[i.val] = false := by decide
theorem b_255b : ∀ i : Fin 8, (255#8)[i.val] = true := by decide
theorem b_mask {v : Int32} : (vp_nar .byte v) &&& 255 = v &&& 255 := by
  rw [vp_nar_byte]
  apply Int32.toBitVec_inj.mp
  simp only [Int32.toBitVec_and]
  ext i hi
  simp
  by_cases h : i < 8
  · simp [BitVec.getElem_signExtend, h, hi]
  · have := b_255 ⟨i, hi⟩ (by show 8 ≤ i; omega)
    simp only at this
    simp [this]
def isB (v : Int32) : Prop := v.toInt8.toInt32 = v
theorem nar_B {v : Int32} (h : isB v) : vp_nar .byte v = v := by rw [vp_nar_byte]; exact h
theorem B_nar (v : Int32) : isB (vp_nar .byte v) := by
  have := pk_vb v
  rw [vp_nar_byte] at this
  rw [isB, vp_nar_byte]
  exact this
theorem B_eq {a b : Int32} (ha : isB a) (hb : isB b) (h : a &&& 255 = b &&& 255) : a = b := by
  have e : ∀ v : Int32, (v &&& 255).toInt8 = v.toInt8 := by
    intro v
    apply Int8.toBitVec_inj.mp
    simp only [Int32.toBitVec_toInt8, Int32.toBitVec_and]
    ext i hi
    have := b_255b ⟨i, hi⟩
    simp only at this
    simp [BitVec.getElem_signExtend, this, hi]
  rw [← ha, ← hb, ← e a, ← e b, h]
theorem b_rng {v : Int32} : 0 ≤ v &&& 255 ∧ v &&& 255 < 256 := by
  have h : (v &&& 255).toInt = ((v.toBitVec.toNat % 256 : Nat) : Int) := by
    rw [← Int32.toInt_toBitVec, Int32.toBitVec_and]
    have : (v.toBitVec &&& (255 : Int32).toBitVec).toNat = v.toBitVec.toNat % 256 := by
      rw [BitVec.toNat_and]
      exact Nat.and_two_pow_sub_one_eq_mod _ 8
    rw [BitVec.toInt_eq_toNat_of_lt (by rw [this]; omega), this]
  rw [tI_le, tI_lt, h]
  have h1 : (0 : Int32).toInt = 0 := rfl
  have h2 : (256 : Int32).toInt = 256 := rfl
  omega
theorem h_ll (h : Int32) : (Int32.toInt64 h).toInt32 = h := by simp
theorem wp_bxo {α β : Type} {x : Option (Except (Nat × mS) β)} {f : β → Option (Except (Nat × mS) α)} {Q : Except (Nat × mS) α → Prop} (h : wp x (fun z => match z with | .ok r => wp (f r) Q | .error e => Q (.error e))) : wp (bx x f) Q := by
  obtain ⟨z, e, hz⟩ := h
  rw [e]
  cases z with
  | ok r => exact hz
  | error u => exact wp_some hz
theorem wp_bdo {α β : Type} {x : Option β} {f : β → Option α} {Q : α → Prop} (h : wp x (fun r => wp (f r) Q)) : wp (bd x f) Q := by
  obtain ⟨z, e, hz⟩ := h
  rw [e]
  exact hz
