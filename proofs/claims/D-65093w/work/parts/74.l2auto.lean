/-! LAYER 2: numbers as they are (Int32, by lia); states by their fields -/
theorem lit_toInt {n : Nat} (h : n < 2147483648) : (no_index (OfNat.ofNat n) : Int32).toInt = n := i_int (by omega)
theorem gd_in {α : Type} {i : Int32} {n : Nat} {k : Option α} (hn : n < 2147483648) (h0 : 0 ≤ i) (h1 : i < (OfNat.ofNat n : Int32)) : gd (inB i n) k = k := by
  rw [tI_le] at h0
  rw [tI_lt, lit_toInt hn] at h1
  exact gd_of (tI_in h0 h1)
theorem if_ln {α : Type} {a b : Int32} {x y : α} (h : b < a) : (if a ≤ b then x else y) = y := if_neg (fun e => by lia)
theorem if_tn {α : Type} {a b : Int32} {x y : α} (h : b ≤ a) : (if a < b then x else y) = y := if_neg (fun e => by lia)
theorem if_en {α : Type} {a b : Int32} {x y : α} (h : a < b ∨ b < a) : (if a = b then x else y) = y := if_neg (fun e => by lia)
theorem nrf {α : Type} {a b : α} (h : a = b) : a = b := Eq.trans h (Eq.refl b)
def sF (σ : mS) (k : Nat) : Int32 := σ.1 k
def sG (σ : mS) (k : Nat) : Int64 := σ.2.1 k
def sI (σ : mS) (k : Nat) (i : Int32) : Int32 := σ.2.2.1 k i.toNatClampNeg
def sJ (σ : mS) (k : Nat) (i : Int32) : Int64 := σ.2.2.2 k i.toNatClampNeg
theorem cl_inj {a b : Int32} (ha : 0 ≤ a) (hb : 0 ≤ b) (h : a.toNatClampNeg = b.toNatClampNeg) : a = b := by
  rw [tI_le] at ha hb
  rw [tI_cl, tI_cl] at h
  rw [tI_eq]
  have : (0 : Int32).toInt = 0 := rfl
  omega
theorem sF_fold {σ : mS} {k : Nat} : σ.1 k = sF σ k := nrf rfl
theorem sG_fold {σ : mS} {k : Nat} : σ.2.1 k = sG σ k := nrf rfl
theorem sI_fold {σ : mS} {k : Nat} {i : Int32} : σ.2.2.1 k i.toNatClampNeg = sI σ k i := nrf rfl
theorem sJ_fold {σ : mS} {k : Nat} {i : Int32} : σ.2.2.2 k i.toNatClampNeg = sJ σ k i := nrf rfl
theorem sF_pi {σ : mS} {k j : Nat} {v : Int32} : sF (md_pi σ k v) j = if j = k then v else sF σ j := nrf rfl
theorem sF_pl {σ : mS} {k j : Nat} {v : Int64} : sF (md_pl σ k v) j = sF σ j := nrf rfl
theorem sF_ai {σ : mS} {k i j : Nat} {v : Int32} : sF (md_ai σ k i v) j = sF σ j := nrf rfl
theorem sF_al {σ : mS} {k i j : Nat} {v : Int64} : sF (md_al σ k i v) j = sF σ j := nrf rfl
theorem sG_pi {σ : mS} {k j : Nat} {v : Int32} : sG (md_pi σ k v) j = sG σ j := nrf rfl
theorem sG_pl {σ : mS} {k j : Nat} {v : Int64} : sG (md_pl σ k v) j = if j = k then v else sG σ j := nrf rfl
theorem sG_ai {σ : mS} {k i j : Nat} {v : Int32} : sG (md_ai σ k i v) j = sG σ j := nrf rfl
theorem sG_al {σ : mS} {k i j : Nat} {v : Int64} : sG (md_al σ k i v) j = sG σ j := nrf rfl
theorem sI_pi {σ : mS} {k j : Nat} {v m : Int32} : sI (md_pi σ k v) j m = sI σ j m := nrf rfl
theorem sI_pl {σ : mS} {k j : Nat} {v : Int64} {m : Int32} : sI (md_pl σ k v) j m = sI σ j m := nrf rfl
theorem sI_al {σ : mS} {k i j : Nat} {v : Int64} {m : Int32} : sI (md_al σ k i v) j m = sI σ j m := nrf rfl
theorem sI_ai {σ : mS} {k j : Nat} {i v m : Int32} (hi : 0 ≤ i) (hm : 0 ≤ m) : sI (md_ai σ k i.toNatClampNeg v) j m = if j = k ∧ m = i then v else sI σ j m := by
  simp only [sI, ai_I]
  by_cases h : j = k
  · subst h
    by_cases e : m = i
    · subst e; simp [upd_at]
    · simp only [if_true, upd_at]
      rw [if_neg (fun h => e (cl_inj hm hi h)), if_neg (fun h => e h.2)]
  · simp [h]
theorem sI_ai1 {σ : mS} {k i : Nat} {j : Nat} {v m : Int32} (h : j ≠ k) : sI (md_ai σ k i v) j m = sI σ j m := by
  simp only [sI, ai_I, if_neg h]
theorem sI_ai2 {σ : mS} {k : Nat} {v m : Int32} : sI (md_ai σ k m.toNatClampNeg v) k m = v := by
  simp [sI, ai_I, upd_at]
theorem sJ_pi {σ : mS} {k j : Nat} {v m : Int32} : sJ (md_pi σ k v) j m = sJ σ j m := nrf rfl
theorem sJ_pl {σ : mS} {k j : Nat} {v : Int64} {m : Int32} : sJ (md_pl σ k v) j m = sJ σ j m := nrf rfl
theorem sJ_ai {σ : mS} {k i j : Nat} {v m : Int32} : sJ (md_ai σ k i v) j m = sJ σ j m := nrf rfl
theorem sJ_al {σ : mS} {k j : Nat} {i m : Int32} {v : Int64} (hi : 0 ≤ i) (hm : 0 ≤ m) : sJ (md_al σ k i.toNatClampNeg v) j m = if j = k ∧ m = i then v else sJ σ j m := by
  simp only [sJ, al_J]
  by_cases h : j = k
  · subst h
    by_cases e : m = i
    · subst e; simp [updL_at]
    · simp only [if_true, updL_at]
      rw [if_neg (fun h => e (cl_inj hm hi h)), if_neg (fun h => e h.2)]
  · simp [h]
theorem sJ_al1 {σ : mS} {k i : Nat} {j : Nat} {v : Int64} {m : Int32} (h : j ≠ k) : sJ (md_al σ k i v) j m = sJ σ j m := by
  simp only [sJ, al_J, if_neg h]
theorem sJ_al2 {σ : mS} {k : Nat} {v : Int64} {m : Int32} : sJ (md_al σ k m.toNatClampNeg v) k m = v := by
  simp [sJ, al_J, updL_at]
