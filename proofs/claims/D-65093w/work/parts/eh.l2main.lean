/-! LAYER 2: the main induction: from every point a run is well -/
/-- a step from a point is well -/
def STEP (e : EV) (rk : Nat) (g p q : Int32) (ρ : List Int32) (m : Int32) : Prop := ∀ M F n w xf c d rest f fl σ μ, CXT e M F n rk → PT e w xf c d rest f fl ρ m g p q F n σ μ → Good e (M + 3000) σ μ
def ZST (e : EV) : Prop := ∀ rk g p q ρ m, rk ≤ 2000000 → eZ e rk g p q ρ m → STEP e rk g p q ρ m
theorem MR_P {e : EV} {w : WD} {xf : Int32 → List Int32} {c d : Int32} {rest : PL2} {f : Int32} {fl : List Int32} {ρ : List Int32} {m : Int32} {σ μ : mS} (H : MR e w xf c d rest f fl ρ m σ μ) : PT e w xf c d rest f fl ρ m (sI σ 344 f) (sI σ 346 f) (mff μ (sF μ 154 - 1) 2) (sF σ 396) (sF μ 154) σ μ := ⟨H, rfl, rfl, rfl, rfl, rfl⟩
theorem tN_lt {a b : Int32} (h0 : 0 ≤ a) (h : a < b) : a.toInt.toNat < b.toInt.toNat := by
  rw [tI_lt] at h
  rw [tI_le] at h0
  have z : (0 : Int32).toInt = 0 := rfl
  omega
theorem tN_le {a b : Int32} (h0 : 0 ≤ a) (h : a ≤ b) : a.toInt.toNat ≤ b.toInt.toNat := by
  rw [tI_le] at h h0
  have z : (0 : Int32).toInt = 0 := rfl
  omega
theorem main_T {e : EV} (E : EVok e) (Z : ZRok e) (EK : KOK e) (LB : LBst e) (ZS : ZST e) : ∀ (T : Nat), 3000 * T + 8000 < eN e → ∀ (F n : Int32) (rk : Nat), T = (F.toInt.toNat * 201 + n.toInt.toNat) * 2000001 + rk → rk ≤ 2000000 → ∀ w xf c d rest f fl ρ m g p q σ μ, PT e w xf c d rest f fl ρ m g p q F n σ μ → eZ e rk g p q ρ m → Good e (3000 * (T + 1)) σ μ := by
  intro T
  induction T using Nat.strongRecOn with
  | _ T ih =>
  intro hT F n rk eT hrk w xf c d rest f fl ρ m g p q σ μ A z
  have F0 : 0 ≤ F := by
    have := A.1.1.1.2.2.2.2.2.2.2.2.2.2.1
    rw [A.2.2.2.2.1] at this
    exact this
  have n12 := (PT_N A).2.2.2
  have n200 := tN_le (Int32.le_trans (by decide) n12.1) n12.2
  rw [show (200 : Int32).toInt.toNat = 200 from rfl] at n200
  have HGl : ∀ (F' n' : Int32), (F' < F ∧ n' ≤ 200) ∨ (F' = F ∧ n' < n) → HG e (3000 * T) F' n' := fun F' n' hl => by
    intro w xf c d rest f fl ρ m rk' σ μ H hrk' z' hF hn
    have A' := MR_P H
    have n12' := (PT_N A').2.2.2
    have F0' : 0 ≤ sF σ 396 := H.1.1.2.2.2.2.2.2.2.2.2.2.1
    have a := tN_le (Int32.le_trans (by decide) n12'.1) n12'.2
    rw [show (200 : Int32).toInt.toNat = 200 from rfl] at a
    rw [hF] at F0' A'
    have lt' : (F'.toInt.toNat * 201 + (sF μ 154).toInt.toNat) * 2000001 + rk' < T := by
      rcases hl with ⟨h1, h2⟩ | ⟨h1, h2⟩
      · have := tN_lt F0' h1
        omega
      · subst h1
        have := tN_lt (Int32.le_trans (by decide) n12'.1) (Int32.lt_of_le_of_lt hn h2)
        omega
    exact Good_mono (ih _ lt' (by omega) F' (sF μ 154) rk' rfl hrk' w xf c d rest f fl ρ m _ _ _ σ μ A' z') (by omega)
  have n1 : n - 1 < n := by have := n12.1; have := n12.2; clear HGl ih A z; lia
  refine ZS rk g p q ρ m hrk z (3000 * T) F n w xf c d rest f fl σ μ ⟨E, by omega, Z, EK, LB, ?_, fun F' h0 h1 => HGl F' 200 (.inl ⟨h1, Int32.le_refl _⟩), fun k => GFR E (HGl F (n - 1) (.inr ⟨rfl, n1⟩)) (by omega) k⟩ A
  intro w xf c d rest f fl ρ m g p q r σ μ A' hr z'
  exact Good_mono (ih ((F.toInt.toNat * 201 + n.toInt.toNat) * 2000001 + r) (by omega) (by omega) F n r rfl (by omega) w xf c d rest f fl ρ m g p q σ μ A' z') (by omega)
/-- every run is well -/
theorem main_G {e : EV} (E : EVok e) (Z : ZRok e) (EK : KOK e) (LB : LBst e) (ZS : ZST e) (hN : 10000000000000000000000000 ≤ eN e) {w : WD} {xf : Int32 → List Int32} {c d : Int32} {rest : PL2} {f : Int32} {fl : List Int32} {ρ : List Int32} {m g p q F n : Int32} {rk : Nat} {σ μ : mS} (A : PT e w xf c d rest f fl ρ m g p q F n σ μ) (z : eZ e rk g p q ρ m) (hr : rk ≤ 2000000) : Good e (eN e - 1) σ μ := by
  have n12 := (PT_N A).2.2.2
  have n200 := tN_le (Int32.le_trans (by decide) n12.1) n12.2
  rw [show (200 : Int32).toInt.toNat = 200 from rfl] at n200
  have Fb : F.toInt.toNat < 2147483648 := by
    have := tI_rng F
    omega
  exact Good_mono (main_T E Z EK LB ZS _ (by omega) F n rk rfl hr w xf c d rest f fl ρ m g p q σ μ A z) (by omega)
theorem HG_all {e : EV} (E : EVok e) (Z : ZRok e) (EK : KOK e) (LB : LBst e) (ZS : ZST e) (hN : 10000000000000000000000000 ≤ eN e) (F : Int32) : HG e (eN e - 1000) F 200 := by
  intro w xf c d rest f fl ρ m rk σ μ H hr z hF hn
  have A := MR_P H
  have n12 := (PT_N A).2.2.2
  have n200 := tN_le (Int32.le_trans (by decide) n12.1) n12.2
  rw [show (200 : Int32).toInt.toNat = 200 from rfl] at n200
  have Fb : (sF σ 396).toInt.toNat < 2147483648 := by
    have := tI_rng (sF σ 396)
    omega
  exact Good_mono (main_T E Z EK LB ZS _ (by omega) _ _ rk rfl hr w xf c d rest f fl ρ m _ _ _ σ μ A z) (by omega)
