/-! LAYER 2: step rules: what comes first, constants -/
theorem Good_2 {e : EV} {M : Nat} {w : WD} {xf : Int32 → List Int32} {c d : Int32} {rest : PL2} {f : Int32} {fl : List Int32} {ρ : List Int32} {m : Int32} {g p q F n : Int32} {σ μ τ τm : mS} (A : PT e w xf c d rest f fl ρ m g p q F n σ μ) (hx : xx6_step (eN e) σ = some (.ok τ)) (hm : mm_act (eN e) μ = some τm) (G : Good e M τ τm) : Good e (M + 3000) σ μ := Good_mono (good_2 (PT_0 A).1 (PT_0 A).2 hx hm G) (by omega)
theorem Good_x {e : EV} {M : Nat} {w : WD} {xf : Int32 → List Int32} {c d : Int32} {rest : PL2} {f : Int32} {fl : List Int32} {ρ : List Int32} {m : Int32} {g p q F n : Int32} {σ μ τ : mS} (A : PT e w xf c d rest f fl ρ m g p q F n σ μ) (hx : xx6_step (eN e) σ = some (.ok τ)) (G : Good e M τ μ) : Good e (M + 3000) σ μ := Good_mono (good_x (PT_0 A).1 hx G) (by omega)
theorem Good_m {e : EV} {M : Nat} {w : WD} {xf : Int32 → List Int32} {c d : Int32} {rest : PL2} {f : Int32} {fl : List Int32} {ρ : List Int32} {m : Int32} {g p q F n : Int32} {σ μ τm : mS} (A : PT e w xf c d rest f fl ρ m g p q F n σ μ) (hm : mm_act (eN e) μ = some τm) (G : Good e M σ τm) : Good e (M + 3000) σ μ := Good_mono (good_m (PT_0 A).2 hm G) (by omega)
/-- the numbers of an instruction, of an act -/
theorem ops_1 {p : Int32} (h0 : 0 ≤ p) (h1 : p < 339900) : (0 ≤ p + 1 ∧ p + 1 < 340000) ∧ (0 ≤ p + 2 ∧ p + 2 < 340000) ∧ (0 ≤ p + 3 ∧ p + 3 < 340000) ∧ (0 ≤ p + 4 ∧ p + 4 < 340000) := ⟨⟨by lia, by lia⟩, ⟨by lia, by lia⟩, ⟨by lia, by lia⟩, by lia, by lia⟩
theorem xP_256 {e : EV} {w : WD} {xf : Int32 → List Int32} {c d : Int32} {rest : PL2} {f : Int32} {fl : List Int32} {ρ : List Int32} {m : Int32} {g p q F n : Int32} {σ μ : mS} (S : PT e w xf c d rest f fl ρ m g p q F n σ μ) (i : Int32) : σ.2.2.1 256 i.toNatClampNeg = nx e i := SV_cx (k := 256) (PT_V S) (by omega) i
theorem aP_70 {e : EV} {w : WD} {xf : Int32 → List Int32} {c d : Int32} {rest : PL2} {f : Int32} {fl : List Int32} {ρ : List Int32} {m : Int32} {g p q F n : Int32} {σ μ : mS} (S : PT e w xf c d rest f fl ρ m g p q F n σ μ) (i : Int32) : μ.2.2.1 70 i.toNatClampNeg = sI (eμ e) 70 i ∧ μ.2.2.1 73 i.toNatClampNeg = sI (eμ e) 73 i := ⟨SV_cm (k := 70) (PT_V S) (by omega) i, SV_cm (k := 73) (PT_V S) (by omega) i⟩
/-- the act of a number -/
theorem act_k {e : EV} {w : WD} {xf : Int32 → List Int32} {c d : Int32} {rest : PL2} {f : Int32} {fl : List Int32} {ρ : List Int32} {m : Int32} {g p q F n : Int32} {σ μ : mS} (A : PT e w xf c d rest f fl ρ m g p q F n σ μ) {k : Int32} (ha : acm e q k) : inB q 160000 = true ∧ (actP μ (n - 1) q).2.2.1 70 q.toNatClampNeg = k := by
  refine ⟨tI_in ?_ ?_, ?_⟩
  · have := ha.1.1; rw [tI_le] at this; exact this
  · have := ha.1.2
    rw [tI_lt] at this
    have z : (159900 : Int32).toInt = 159900 := rfl
    omega
  · rw [(aP_70 (ST_m A) q).1]; exact ha.2
theorem VV_truth {w : WD} {a : Int32} (h : a = 0 ∨ a = 1) : VV w (if a = 1 then 2 else 1) 0 1 (Int32.toInt64 a) := by
  rcases h with rfl | rfl
  · exact .inr (.inl ⟨rfl, rfl, rfl, rfl⟩)
  · exact .inr (.inr (.inl ⟨rfl, rfl, rfl, rfl⟩))
/-- a point of a lower rank -/
def lo (e : EV) (rk : Nat) (g p q : Int32) (ρ : List Int32) (m : Int32) : Prop := ∃ r, r < rk ∧ eZ e r g p q ρ m
theorem GK_lo {e : EV} {w : WD} {xf : Int32 → List Int32} {c d : Int32} {rest : PL2} {f : Int32} {fl : List Int32} {ρ : List Int32} {m : Int32} {g p q F n : Int32} {σ μ : mS} {M rk : Nat} (G : GK e M F n rk) (A : PT e w xf c d rest f fl ρ m g p q F n σ μ) (L : lo e rk g p q ρ m) : Good e M σ μ := by
  obtain ⟨r, hr, z⟩ := L
  exact G _ _ _ _ _ _ _ _ _ _ _ _ r _ _ A hr z
/-- the act of a number, as it stands -/
theorem act_f {e : EV} {w : WD} {xf : Int32 → List Int32} {c d : Int32} {rest : PL2} {f : Int32} {fl : List Int32} {ρ : List Int32} {m : Int32} {g p q F n : Int32} {σ μ : mS} (A : PT e w xf c d rest f fl ρ m g p q F n σ μ) {k : Int32} (ha : acm e q k) : mm_act (eN e) μ = actF (eN e) k (n - 1) q (mff μ (n - 1) 3) (sI (eμ e) 71 q) (sI (eμ e) 72 q) (actP μ (n - 1) q) := by
  rw [PT_m A ha, act79_x, (act_k A ha).1, gd_tt, (act_k A ha).2]
theorem act_g {e : EV} {w : WD} {xf : Int32 → List Int32} {c d : Int32} {rest : PL2} {f : Int32} {fl : List Int32} {ρ : List Int32} {m : Int32} {g p q F n : Int32} {σ μ : mS} (A : PT e w xf c d rest f fl ρ m g p q F n σ μ) {k : Int32} (ha : acm e q k) : mm_actMore (eN e) (actP μ (n - 1) q) (n - 1) q (mff μ (n - 1) 3) (sI (eμ e) 71 q) (sI (eμ e) 72 q) = moreF (eN e) k (n - 1) q (mff μ (n - 1) 3) (sI (eμ e) 71 q) (sI (eμ e) 72 q) (actP μ (n - 1) q) := by
  rw [more_x, (act_k A ha).1, gd_tt, (act_k A ha).2]
theorem bd_me {α : Type} {o : Option α} {f : α → Option α} (h : ∀ z, f z = some z) : bd o f = o := by
  rw [show f = some from funext h]
  exact bd_id
theorem bd_cg {α β : Type} {o : Option α} {f k : α → Option β} (h : ∀ z, f z = k z) : bd o f = bd o k := by rw [funext h]
/-- one value more on both sides -/
theorem b_push {e : EV} {w : WD} {xf : Int32 → List Int32} {c d : Int32} {rest : PL2} {f : Int32} {fl : List Int32} {ρ : List Int32} {g p q F n : Int32} {σ μ : mS} (Z : ZRok e) {M rk : Nat} (G : GK e M F n rk) (A : PT e w xf c d rest f fl ρ (-1) g p q F n σ μ) (z : eZ e rk g p q ρ (-1)) {op k wd r tx tm : Int32} {vx vm : Int64} (ho : opx e p op) (ha : acm e q k) (hw : ∀ s, xx0_width (eN e) s op = some (wd, s)) (ok : okr ρ r 1 (sI (eσ e) 261 g)) (v : VV w tx vx tm vm) (hx : stepF (eN e) op p (xP σ f p wd) = bd (xx6_set (eN e) (xP σ f p wd) r tx vx) (fun z => some (.ok z))) (hm : actF (eN e) k (n - 1) q (mff μ (n - 1) 3) (sI (eμ e) 71 q) (sI (eμ e) 72 q) (actP μ (n - 1) q) = mm_push (eN e) (actP μ (n - 1) q) tm vm) (L : lo e rk g (p + wd) (q + 1) (ρ ++ [r]) (-1)) : Good e (M + 3000) σ μ := by
  have hx' := PT_x A ho hw
  have S := PT_s A wd
  obtain ⟨p1, p2, p3⟩ := push_ST (N := eN e) Z S z ok v
  exact Good_2 A (by rw [hx', hx, p1, bd_so]) (by rw [act_f A ha, hm, p2]) (GK_lo G p3 L)
/-- PUT_BOOLEAN -/
theorem r_truth {e : EV} {w : WD} {xf : Int32 → List Int32} {c d : Int32} {rest : PL2} {f : Int32} {fl : List Int32} {ρ : List Int32} {g p q F n : Int32} {σ μ : mS} (Z : ZRok e) {M rk : Nat} (G : GK e M F n rk) (A : PT e w xf c d rest f fl ρ (-1) g p q F n σ μ) (z : eZ e rk g p q ρ (-1)) (ho : opx e p 2) (ha : acm e q 1) (h01 : sI (eμ e) 71 q = 0 ∨ sI (eμ e) 71 q = 1) (h2 : nx e (p + 2) = 1 ↔ sI (eμ e) 71 q = 1) (ok : okr ρ (nx e (p + 1)) 1 (sI (eσ e) 261 g)) (L : lo e rk g (p + 3) (q + 1) (ρ ++ [nx e (p + 1)]) (-1)) : Good e (M + 3000) σ μ := by
  have S := PT_s A 3
  have o := ops_1 ho.1.1 ho.1.2
  refine b_push Z G A z ho ha (fun s => rfl) ok (VV_truth (w := w) h01) ?_ ?_ L
  · rw [sf_2, gd_in (by decide) o.1.1 o.1.2, gd_in (by decide) o.2.1.1 o.2.1.2, xP_256 S.1, xP_256 S.1]
    by_cases c1 : sI (eμ e) 71 q = 1
    · rw [if_pos (h2.mpr c1), if_pos c1, xx6_step_b295, xx6_setTruth, if_neg (by decide), xx6_setTruth_b11, bd_bd]; exact bd_cg (fun z => rfl)
    · rw [if_neg (fun h => c1 (h2.mp h)), if_neg c1, xx6_step_b295, xx6_setTruth, if_pos rfl, xx6_setTruth_b11, bd_bd]; exact bd_cg (fun z => rfl)
  · rw [af_1]; exact bd_me (fun z => rfl)
/-- PUT_NUMBER -/
theorem r_number {e : EV} {w : WD} {xf : Int32 → List Int32} {c d : Int32} {rest : PL2} {f : Int32} {fl : List Int32} {ρ : List Int32} {g p q F n : Int32} {σ μ : mS} (Z : ZRok e) {M rk : Nat} (G : GK e M F n rk) (A : PT e w xf c d rest f fl ρ (-1) g p q F n σ μ) (z : eZ e rk g p q ρ (-1)) (ho : opx e p 3) (ha : acm e q 2) (h1 : nx e (p + 2) = sI (eμ e) 72 q) (h2 : nx e (p + 3) = sI (eμ e) 71 q) (ok : okr ρ (nx e (p + 1)) 1 (sI (eσ e) 261 g)) (L : lo e rk g (p + 4) (q + 1) (ρ ++ [nx e (p + 1)]) (-1)) : Good e (M + 3000) σ μ := by
  have S := PT_s A 4
  have o := ops_1 ho.1.1 ho.1.2
  refine b_push Z G A z ho ha (fun s => rfl) ok (VV_n (w := w) (v := (Int32.toInt64 (sI (eμ e) 72 q) <<< (Int32.toInt64 32 &&& 63)) ||| (Int32.toInt64 (sI (eμ e) 71 q) &&& 4294967295))) ?_ ?_ L
  · rw [sf_3, gd_in (by decide) o.1.1 o.1.2, gd_in (by decide) o.2.1.1 o.2.1.2, gd_in (by decide) o.2.2.1.1 o.2.2.1.2, xP_256 S.1, xP_256 S.1, xP_256 S.1, h1, h2]; rfl
  · rw [af_2]; exact bd_me (fun z => rfl)
/-- PUT_STRING -/
theorem r_string {e : EV} {w : WD} {xf : Int32 → List Int32} {c d : Int32} {rest : PL2} {f : Int32} {fl : List Int32} {ρ : List Int32} {g p q F n : Int32} {σ μ : mS} (Z : ZRok e) {M rk : Nat} (G : GK e M F n rk) (A : PT e w xf c d rest f fl ρ (-1) g p q F n σ μ) (z : eZ e rk g p q ρ (-1)) (ho : opx e p 4) (ha : acm e q 3) (h1 : (nx e (p + 2), sI (eμ e) 71 q) ∈ eX' e) (ok : okr ρ (nx e (p + 1)) 1 (sI (eσ e) 261 g)) (L : lo e rk g (p + 3) (q + 1) (ρ ++ [nx e (p + 1)]) (-1)) : Good e (M + 3000) σ μ := by
  have S := PT_s A 3
  have o := ops_1 ho.1.1 ho.1.2
  have vs : VV w 4 (Int32.toInt64 (nx e (p + 2))) 3 (Int32.toInt64 (sI (eμ e) 71 q)) := .inr (.inr (.inr (.inr (.inl ⟨rfl, rfl, _, _, rfl, rfl, .inr ((PT_V A).2.2.1 _ h1)⟩))))
  refine b_push Z G A z ho ha (fun s => rfl) ok vs ?_ ?_ L
  · rw [sf_4, gd_in (by decide) o.1.1 o.1.2, gd_in (by decide) o.2.1.1 o.2.1.2, xP_256 S.1, xP_256 S.1]; rfl
  · rw [af_3]; exact bd_me (fun z => rfl)
