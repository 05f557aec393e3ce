/-! LAYER 2: weakest preconditions of the pure functions; numbers by their values -/
def wp {α : Type} (x : Option α) (Q : α → Prop) : Prop := ∃ r, x = some r ∧ Q r
theorem wp_some {α : Type} {r : α} {Q : α → Prop} (h : Q r) : wp (some r) Q := ⟨r, rfl, h⟩
theorem wp_eq {α : Type} {x : Option α} {r : α} {Q : α → Prop} (e : x = some r) (h : Q r) : wp x Q := ⟨r, e, h⟩
theorem wp_lt {α β : Type} {x : β} {f : β → Option α} {Q : α → Prop} (h : wp (f x) Q) : wp (lt x f) Q := h
theorem wp_gd {α : Type} {b : Bool} {k : Option α} {Q : α → Prop} (hb : b = true) (h : wp k Q) : wp (gd b k) Q := by rw [gd_of hb]; exact h
theorem wp_bd {α β : Type} {x : Option β} {f : β → Option α} {R : β → Prop} {Q : α → Prop} (h : wp x R) (hf : ∀ r, R r → wp (f r) Q) : wp (bd x f) Q := by
  obtain ⟨r, e, hr⟩ := h
  rw [e]
  exact hf r hr
theorem wp_bx {α β : Type} {x : Option (Except (Nat × mS) β)} {f : β → Option (Except (Nat × mS) α)} {R : β → Prop} {E : Nat × mS → Prop} {Q : Except (Nat × mS) α → Prop} (h : wp x (fun z => match z with | .ok r => R r | .error e => E e)) (hf : ∀ r, R r → wp (f r) Q) (he : ∀ e, E e → Q (.error e)) : wp (bx x f) Q := by
  obtain ⟨z, e, hz⟩ := h
  rw [e]
  cases z with
  | ok r => exact hf r hz
  | error u => exact wp_some (he u hz)
theorem wp_mono {α : Type} {x : Option α} {P Q : α → Prop} (h : wp x P) (hi : ∀ r, P r → Q r) : wp x Q := by
  obtain ⟨r, e, hr⟩ := h
  exact ⟨r, e, hi r hr⟩
theorem wp_if {α : Type} {c : Prop} [Decidable c] {x y : Option α} {Q : α → Prop} (h1 : c → wp x Q) (h2 : ¬ c → wp y Q) : wp (if c then x else y) Q := by
  by_cases h : c
  · rw [if_pos h]; exact h1 h
  · rw [if_neg h]; exact h2 h
theorem tI_eq {a b : Int32} : a = b ↔ a.toInt = b.toInt := Int32.toInt_inj.symm
theorem tI_lt {a b : Int32} : a < b ↔ a.toInt < b.toInt := Int32.lt_iff_toInt_lt
theorem tI_le {a b : Int32} : a ≤ b ↔ a.toInt ≤ b.toInt := Int32.le_iff_toInt_le
theorem wp_ie {α : Type} {a b : Int32} {x y : Option α} {Q : α → Prop} (h1 : a.toInt = b.toInt → wp x Q) (h2 : a.toInt ≠ b.toInt → wp y Q) : wp (if a = b then x else y) Q :=
  wp_if (fun h => h1 (tI_eq.mp h)) (fun h => h2 (fun e => h (tI_eq.mpr e)))
theorem wp_il {α : Type} {a b : Int32} {x y : Option α} {Q : α → Prop} (h1 : a.toInt < b.toInt → wp x Q) (h2 : b.toInt ≤ a.toInt → wp y Q) : wp (if a < b then x else y) Q :=
  wp_if (fun h => h1 (tI_lt.mp h)) (fun h => h2 (by rw [tI_lt] at h; omega))
theorem wp_im {α : Type} {a b : Int32} {x y : Option α} {Q : α → Prop} (h1 : a.toInt ≤ b.toInt → wp x Q) (h2 : b.toInt < a.toInt → wp y Q) : wp (if a ≤ b then x else y) Q :=
  wp_if (fun h => h1 (tI_le.mp h)) (fun h => h2 (by rw [tI_le] at h; omega))
theorem tI_in {i : Int32} {n : Nat} (h0 : 0 ≤ i.toInt) (h1 : i.toInt < n) : inB i n = true := by
  simp only [inB, Bool.and_eq_true, decide_eq_true_eq]; exact ⟨h0, h1⟩
theorem wp_in {α : Type} {i : Int32} {n : Nat} {k : Option α} {Q : α → Prop} (h : 0 ≤ i.toInt ∧ i.toInt < n) (hk : wp k Q) : wp (gd (inB i n) k) Q := wp_gd (tI_in h.1 h.2) hk
theorem tI_cl (v : Int32) : v.toNatClampNeg = v.toInt.toNat := rfl
theorem tI_rng (v : Int32) : -2147483648 ≤ v.toInt ∧ v.toInt < 2147483648 := ⟨Int32.le_toInt v, Int32.toInt_lt v⟩
theorem tI_add {a b : Int32} (h1 : -2147483648 ≤ a.toInt + b.toInt) (h2 : a.toInt + b.toInt < 2147483648) : (a + b).toInt = a.toInt + b.toInt := by
  rw [Int32.toInt_add]
  exact Int.bmod_eq_of_le (by omega) (by omega)
theorem tI_sub {a b : Int32} (h1 : -2147483648 ≤ a.toInt - b.toInt) (h2 : a.toInt - b.toInt < 2147483648) : (a - b).toInt = a.toInt - b.toInt := by
  rw [Int32.toInt_sub]
  exact Int.bmod_eq_of_le (by omega) (by omega)
theorem tI_mul {a b : Int32} (h1 : -2147483648 ≤ a.toInt * b.toInt) (h2 : a.toInt * b.toInt < 2147483648) : (a * b).toInt = a.toInt * b.toInt := by
  rw [Int32.toInt_mul]
  exact Int.bmod_eq_of_le (by omega) (by omega)
theorem tI_m1 : (-1 : Int32).toInt = -1 := rfl
theorem tI_lit {n : Nat} (h : n < 2147483648) : (Int32.ofNat n).toInt = n := i_int (by omega)
theorem wp_z {α : Type} {v : Int32} {k : Option α} {Q : α → Prop} (h : v = 0 ∨ v = 1) (hk : wp k Q) : wp (gd (zB v) k) Q := wp_gd (by simp only [zB, Bool.or_eq_true, decide_eq_true_eq]; exact h) hk
/-- fields of changed states -/
theorem pi_F {σ : mS} {k j : Nat} {v : Int32} : (md_pi σ k v).1 j = if j = k then v else σ.1 j := rfl
theorem pi_G {σ : mS} {k : Nat} {v : Int32} : (md_pi σ k v).2.1 = σ.2.1 := rfl
theorem pi_I {σ : mS} {k : Nat} {v : Int32} : (md_pi σ k v).2.2.1 = σ.2.2.1 := rfl
theorem pi_J {σ : mS} {k : Nat} {v : Int32} : (md_pi σ k v).2.2.2 = σ.2.2.2 := rfl
theorem pl_F {σ : mS} {k : Nat} {v : Int64} : (md_pl σ k v).1 = σ.1 := rfl
theorem pl_G {σ : mS} {k j : Nat} {v : Int64} : (md_pl σ k v).2.1 j = if j = k then v else σ.2.1 j := rfl
theorem pl_I {σ : mS} {k : Nat} {v : Int64} : (md_pl σ k v).2.2.1 = σ.2.2.1 := rfl
theorem pl_J {σ : mS} {k : Nat} {v : Int64} : (md_pl σ k v).2.2.2 = σ.2.2.2 := rfl
theorem ai_F {σ : mS} {k i : Nat} {v : Int32} : (md_ai σ k i v).1 = σ.1 := rfl
theorem ai_G {σ : mS} {k i : Nat} {v : Int32} : (md_ai σ k i v).2.1 = σ.2.1 := rfl
theorem ai_I {σ : mS} {k i j : Nat} {v : Int32} : (md_ai σ k i v).2.2.1 j = if j = k then upd (σ.2.2.1 k) i v else σ.2.2.1 j := rfl
theorem ai_J {σ : mS} {k i : Nat} {v : Int32} : (md_ai σ k i v).2.2.2 = σ.2.2.2 := rfl
theorem al_F {σ : mS} {k i : Nat} {v : Int64} : (md_al σ k i v).1 = σ.1 := rfl
theorem al_G {σ : mS} {k i : Nat} {v : Int64} : (md_al σ k i v).2.1 = σ.2.1 := rfl
theorem al_I {σ : mS} {k i : Nat} {v : Int64} : (md_al σ k i v).2.2.1 = σ.2.2.1 := rfl
theorem al_J {σ : mS} {k i j : Nat} {v : Int64} : (md_al σ k i v).2.2.2 j = if j = k then vp_updL (σ.2.2.2 k) i v else σ.2.2.2 j := rfl
theorem upd_at {f : Nat → Int32} {k j : Nat} {v : Int32} : upd f k v j = if j = k then v else f j := rfl
theorem updL_at {f : Nat → Int64} {k j : Nat} {v : Int64} : vp_updL f k v j = if j = k then v else f j := rfl
/-- only fields of the object o change -/
def x_fr (o : Nat) (σ τ : mS) : Prop := (∀ k, k / 64 ≠ o → τ.1 k = σ.1 k) ∧ (∀ k, k / 64 ≠ o → τ.2.1 k = σ.2.1 k) ∧ (∀ k, k / 64 ≠ o → τ.2.2.1 k = σ.2.2.1 k) ∧ (∀ k, k / 64 ≠ o → τ.2.2.2 k = σ.2.2.2 k)
theorem fr_rfl {o : Nat} {σ : mS} : x_fr o σ σ := ⟨fun _ _ => rfl, fun _ _ => rfl, fun _ _ => rfl, fun _ _ => rfl⟩
theorem fr_tr {o : Nat} {σ τ υ : mS} (h : x_fr o σ τ) (h' : x_fr o τ υ) : x_fr o σ υ := ⟨fun k hk => (h'.1 k hk).trans (h.1 k hk), fun k hk => (h'.2.1 k hk).trans (h.2.1 k hk), fun k hk => (h'.2.2.1 k hk).trans (h.2.2.1 k hk), fun k hk => (h'.2.2.2 k hk).trans (h.2.2.2 k hk)⟩
theorem fr_pi {o k : Nat} {σ τ : mS} {v : Int32} (h : x_fr o σ τ) (hk : k / 64 = o) : x_fr o σ (md_pi τ k v) := ⟨fun j hj => by rw [pi_F, if_neg (fun e : j = k => hj (by rw [e]; exact hk))]; exact h.1 j hj, h.2.1, h.2.2.1, h.2.2.2⟩
theorem fr_pl {o k : Nat} {σ τ : mS} {v : Int64} (h : x_fr o σ τ) (hk : k / 64 = o) : x_fr o σ (md_pl τ k v) := ⟨h.1, fun j hj => by rw [pl_G, if_neg (fun e : j = k => hj (by rw [e]; exact hk))]; exact h.2.1 j hj, h.2.2.1, h.2.2.2⟩
theorem fr_ai {o k i : Nat} {σ τ : mS} {v : Int32} (h : x_fr o σ τ) (hk : k / 64 = o) : x_fr o σ (md_ai τ k i v) := ⟨h.1, h.2.1, fun j hj => by rw [ai_I, if_neg (fun e : j = k => hj (by rw [e]; exact hk))]; exact h.2.2.1 j hj, h.2.2.2⟩
theorem fr_al {o k i : Nat} {σ τ : mS} {v : Int64} (h : x_fr o σ τ) (hk : k / 64 = o) : x_fr o σ (md_al τ k i v) := ⟨h.1, h.2.1, h.2.2.1, fun j hj => by rw [al_J, if_neg (fun e : j = k => hj (by rw [e]; exact hk))]; exact h.2.2.2 j hj⟩
