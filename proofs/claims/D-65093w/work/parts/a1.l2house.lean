/-! LAYER 2: strings as lists; what the house has -/
def bL (f : Int32 → Int32) (n : Int32) : List Int32 := (List.range n.toNatClampNeg).map (fun k => f (Int32.ofNat k))
theorem bL_len {f : Int32 → Int32} {n : Int32} : (bL f n).length = n.toNatClampNeg := by simp only [bL, List.length_map, List.length_range]
theorem bL_get {f : Int32 → Int32} {n : Int32} {k : Nat} (h : k < n.toNatClampNeg) : (bL f n).getD k 0 = f (Int32.ofNat k) := by
  rw [List.getD_eq_getElem?_getD, bL, List.getElem?_map, List.getElem?_range h]; rfl
theorem oN_nn {k : Nat} (h : k < 2147483648) : 0 ≤ Int32.ofNat k := by
  rw [tI_le, tI_lit h]; show (0 : Int) ≤ k; omega
theorem cl_lt {k : Nat} {n : Int32} (h : k < n.toNatClampNeg) : 0 ≤ Int32.ofNat k ∧ Int32.ofNat k < n := by
  have r := tI_rng n
  rw [tI_cl] at h
  exact ⟨oN_nn (by omega), by rw [tI_lt, tI_lit (by omega)]; omega⟩
theorem bL_congr {f g : Int32 → Int32} {n : Int32} (h : ∀ k, 0 ≤ k → k < n → f k = g k) : bL f n = bL g n := by
  simp only [bL]
  apply List.map_congr_left
  intro k hk
  have := cl_lt (List.mem_range.mp hk)
  exact h _ this.1 this.2
theorem sI_oN {σ : mS} {v k : Nat} (h : k < 2147483648) : sI σ v (Int32.ofNat k) = σ.2.2.1 v k := by rw [sI, oN_cl h]
def xL (σ : mS) (h : Int32) : List Int32 := bL (x_by σ h) (x_sz σ h)
def mL (μ : mS) (h : Int32) : List Int32 := bL (m_by μ h) (m_sz μ h)
theorem RS_L {w : WD} {σ μ : mS} {a b : Int32} (H : RS w σ μ) (h : (a, b) ∈ wS w ∨ (a, b) ∈ wX w) : xL σ a = mL μ b := by
  obtain ⟨e1, e2⟩ := H.2.2.2.2.2.1 a b h
  rw [xL, mL, ← e1]
  exact bL_congr e2
theorem sm_L {σ τ : mS} {g : Int32} (h : x_sm σ τ g) : xL τ g = xL σ g := by
  obtain ⟨_, h2, _, h4⟩ := h
  have e : x_sz τ g = x_sz σ g := h2
  rw [xL, xL, e]
  exact bL_congr h4
theorem msm_L {σ τ : mS} {g : Int32} (h : m_sm σ τ g) : mL τ g = mL σ g := by
  obtain ⟨_, h2, _, h4⟩ := h
  have e : m_sz τ g = m_sz σ g := h2
  rw [mL, mL, e]
  exact bL_congr h4
/-- rows of bytes of the system -/
def vB (v n : Nat) : Prop := x_aB 4 v = true ∧ x_ln v = n ∧ n ≤ 1000000
theorem vB_407 : vB 407 8300 := ⟨by decide +kernel, by decide +kernel, by decide⟩
theorem vB_520 : vB 520 4200 := ⟨by decide +kernel, by decide +kernel, by decide⟩
theorem vB_521 : vB 521 4200 := ⟨by decide +kernel, by decide +kernel, by decide⟩
theorem vB_522 : vB 522 4200 := ⟨by decide +kernel, by decide +kernel, by decide⟩
theorem vB_523 : vB 523 16000 := ⟨by decide +kernel, by decide +kernel, by decide⟩
theorem vB_ba {v n : Nat} (h : vB v n) : x_ba v (Int32.ofNat n) := ⟨h.1, by rw [h.2.1]; have := h.2.2; omega, by rw [h.2.1]; rfl⟩
theorem ascii_L {N : Nat} (hN : BIG ≤ N) {t v p L : Nat} {σ : mS} (ht : t < 141) (hv : vB v L) (hp : p + (xtx t).length ≤ L) : ∃ τ, xx6_ascii N σ (3000 + t) v (Int32.ofNat p) = some (Int32.ofNat (p + (xtx t).length), τ) ∧ hasL (τ.2.2.1 v) p (xtx t) ∧ xw v p (xtx t).length σ τ := by
  have ml : (xtx t).length = xs_l t := by simp only [xtx, xs_l, List.length_map]
  rw [ml] at hp
  exact ascii_x hN ht hv.1 hv.2.1 (by have := hv.2.2; omega) hp
theorem digits_L {N : Nat} (hN : BIG ≤ N) {v L p : Nat} {σ : mS} {r : Int64} {t : List Int32} (ht : numT r t) (hv : vB v L) (hp : p + t.length ≤ L) : ∃ τ, xx6_digits N σ r v (Int32.ofNat p) = some (Int32.ofNat (p + t.length), τ) ∧ hasL (τ.2.2.1 v) p t ∧ xw v p t.length σ τ := digits_x hN ht hv.1 hv.2.1 (by have := hv.2.2; omega) hp
theorem cp_at {σ : mS} {i j k : Nat} {sp dp n : Int32} : (x_cp σ i sp j dp n).2.2.1 j k = if dp.toNatClampNeg ≤ k ∧ k < dp.toNatClampNeg + n.toNatClampNeg then σ.2.2.1 i (sp.toNatClampNeg + (k - dp.toNatClampNeg)) else σ.2.2.1 j k := by
  simp only [x_cp, va_up, if_true, va_cpy]
theorem cp_fr {σ : mS} {i j : Nat} {sp dp n : Int32} : m_fr (fun k => k == j) σ (x_cp σ i sp j dp n) := ⟨fun _ _ => rfl, fun _ _ => rfl, fun k hk => by simp only [x_cp, va_up]; rw [if_neg (fun e => by simp [e] at hk)], fun _ _ => rfl⟩
theorem cp_xw {σ : mS} {i j : Nat} {sp n : Int32} {p l : Nat} (hp : p < 2147483648) (hn : n.toNatClampNeg = l) : xw j p l σ (x_cp σ i sp j (Int32.ofNat p) n) := ⟨cp_fr, fun k hk => by rw [cp_at, oN_cl hp, hn, if_neg (by omega)]⟩
theorem copy_L {N : Nat} {σ : mS} {h : Int32} {v p L : Nat} (hs : x_sv σ h) (hv : vB v L) (hne : v ≠ 131 ∧ v ≠ 132 ∧ v ≠ 129) (hp : p + (xL σ h).length ≤ L) : ∃ τ, xx2_copy N σ h v (Int32.ofNat p) = some (Int32.ofNat (p + (xL σ h).length), τ) ∧ hasL (τ.2.2.1 v) p (xL σ h) ∧ xw v p (xL σ h).length σ τ := by
  have L1 := hv.2.2
  have ln : (xL σ h).length = (x_sz σ h).toNatClampNeg := bL_len
  have s0 : 0 ≤ x_sz σ h := hs.2.2.2.1
  have s1 : x_sz σ h = Int32.ofNat (xL σ h).length := by
    rw [tI_eq, ln, tI_cl, tI_lit (by have := tI_rng (x_sz σ h); omega)]
    rw [tI_le] at s0
    have z : (0 : Int32).toInt = 0 := rfl
    omega
  obtain ⟨w, e1, e2, e3⟩ := copy_x (N := N) hs (vB_ba hv) hne (oN_nn (show p < 2147483648 by omega)) (by rw [oN_le (by omega) (by omega)]; omega) (by rw [s1, oN_add, oN_le (by omega) (by omega)]; omega) (by rw [show (1000000 : Int32) = Int32.ofNat 1000000 from rfl, oN_le (by omega) (by omega)]; exact L1)
  have l31 : (xL σ h).length < 2147483648 := by omega
  refine ⟨_, e1.trans (by rw [s1, oN_add]), fun k hk => ?_, cp_xw (by omega) ln.symm⟩
  have q := e2 (Int32.ofNat (p + k)) (oN_nn (by omega)) (by rw [oN_le (by omega) (by omega)]; omega) (by rw [s1, oN_add, oN_lt (by omega) (by omega)]; omega)
  have d : Int32.ofNat (p + k) - Int32.ofNat p = Int32.ofNat k := by
    rw [← oN_add]; lia
  rw [d] at q
  rw [sI_oN (show p + k < 2147483648 by omega)] at q
  rw [q]
  exact (bL_get (by rw [← ln]; exact hk)).symm
theorem putString_lp {N : Nat} {h : Int32} : ∀ (n k : Nat) (μ : mS) (l : List Int32), m_sv μ h → k ≤ (mL μ h).length → (mL μ h).length - k < n → bufL μ l → l.length + ((mL μ h).length - k) < 1000000 → ∃ τ, mm_putString_3 N n h (m_sz μ h) (Int32.ofNat k) μ = some τ ∧ bufL τ (l ++ (mL μ h).drop k) ∧ m_fr bK μ τ := by
  intro n
  induction n with
  | zero => intro k μ l _ _ h; omega
  | succ n ih =>
    intro k μ l hs hk hn hb hl
    have ln : (mL μ h).length = (m_sz μ h).toNatClampNeg := bL_len
    have s0 : 0 ≤ m_sz μ h := hs.2.2.2.1
    have s1 : m_sz μ h = Int32.ofNat (mL μ h).length := by
      rw [tI_eq, ln, tI_cl, tI_lit (by have := tI_rng (m_sz μ h); omega)]
      rw [tI_le] at s0
      have z : (0 : Int32).toInt = 0 := rfl
      omega
    have l31 : (mL μ h).length < 2147483648 := by rw [ln, tI_cl]; have := tI_rng (m_sz μ h); omega
    have le : Int32.ofNat (mL μ h).length ≤ Int32.ofNat k ↔ (mL μ h).length ≤ k := oN_le (by omega) (by omega)
    rw [mm_putString_3]
    by_cases c : (mL μ h).length ≤ k
    · rw [if_pos (by rw [s1]; exact le.mpr c)]
      refine ⟨μ, rfl, ?_, mf_rfl⟩
      rw [List.drop_eq_nil_of_le c, List.append_nil]; exact hb
    · rw [if_neg (by rw [s1]; exact fun q => c (le.mp q))]
      have kl := cl_lt (k := k) (n := m_sz μ h) (by omega)
      rw [byteOf_m hs kl.1 kl.2]
      simp only [bd]
      obtain ⟨τ, e1, e2, e3⟩ := put_m (N := N) (b := m_by μ h (Int32.ofNat k)) hb (by omega)
      simp only [e1, lt, oN_s]
      have sm : m_sm μ τ h := ⟨mf_I e3 rfl, mf_I e3 rfl, mf_I e3 rfl, fun j _ _ => by simp only [m_by]; rw [mf_I e3 rfl, mf_I e3 rfl, mf_I e3 rfl]⟩
      have mLe := msm_L sm
      have mz : m_sz τ h = m_sz μ h := sm.2.1
      obtain ⟨υ, f1, f2, f3⟩ := ih (k + 1) τ _ (msm_sv sm hs) (by rw [mLe]; omega) (by rw [mLe]; omega) e2 (by rw [mLe, List.length_append, List.length_singleton]; omega)
      rw [mz] at f1
      rw [mLe] at f2
      refine ⟨υ, f1, ?_, mf_tr e3 f3⟩
      have dd : (mL μ h).drop k = (m_by μ h (Int32.ofNat k) &&& 255) :: (mL μ h).drop (k + 1) := by
        rw [dr_1 (by omega)]
        congr 1
        simp only [mL]
        rw [bL_get (by omega), m_by, b_255x]
      rw [dd]
      rw [List.append_assoc] at f2
      exact f2
theorem putString_m {N : Nat} (hN : BIG ≤ N) {h : Int32} {μ : mS} {l : List Int32} (hs : m_sv μ h) (hb : bufL μ l) (hl : l.length < 500000) : ∃ τ, mm_putString N μ h 0 (m_sz μ h) = some τ ∧ bufL τ (l ++ mL μ h) ∧ m_fr bK μ τ := by
  have ln : (mL μ h).length = (m_sz μ h).toNatClampNeg := bL_len
  have s1 : m_sz μ h ≤ 300000 := hs.2.2.2.2.2.1
  rw [tI_le] at s1
  have z : (300000 : Int32).toInt = 300000 := rfl
  rw [tI_cl] at ln
  exact putString_lp (N := N) N 0 μ l hs (by omega) (by simp only [BIG] at hN; omega) hb (by omega)
/-- which name of the reference is which handler -/
def hnm : List Nat := [193, 194, 195, 208, 209, 210, 211, 212, 206, 207, 213, 196, 197, 198, 199, 200, 201, 202, 203, 204, 205]
/-- strings that are not too long -/
def ZS (w : WD) (σ : mS) : Prop := ∀ a b, (a, b) ∈ wS w ∨ (a, b) ∈ wX w → x_sz σ a ≤ 4000
/-- what the house has on both sides -/
def HO (w : WD) (σ μ : mS) : Prop := (∀ k, k < 21 → (σ.2.2.1 392 k, sF μ (hnm.getD k 0)) ∈ wX w) ∧ (∀ k, k < 7 → (σ.2.2.1 393 k, μ.2.2.1 217 k) ∈ wX w ∧ xL σ (σ.2.2.1 393 k) = mtx (k + 1)) ∧ (∀ k, k < 4 → (σ.2.2.1 518 k, μ.2.2.1 218 k) ∈ wX w) ∧ (sF σ 525, sF μ 214) ∈ wX w ∧ (sF σ 526, sF μ 215) ∈ wX w ∧ (sF σ 527, sF μ 216) ∈ wX w ∧ (sF σ 395, sF μ 191) ∈ wT w ∧ (sF σ 394, sF μ 192) ∈ wT w ∧ (∀ k, k < 46 → σ.2.2.2 519 k = Int32.toInt64 (μ.2.2.1 44 k))
theorem hnm_rng {k : Nat} (h : k < 21) : 193 ≤ hnm.getD k 0 ∧ hnm.getD k 0 ≤ 213 := by
  have : ∀ i, i < 21 → 193 ≤ hnm.getD i 0 ∧ hnm.getD i 0 ≤ 213 := by decide
  exact this k h
/-- it stays while the heap grows -/
theorem HO_fr {P Q : Nat → Bool} {w w' : WD} {σ μ τ τm : mS} (H : HO w σ μ) (wl : wle w w') (fr : m_fr P σ τ) (frm : m_fr Q μ τm) (hp : ∀ k, (392 ≤ k ∧ k ≤ 395) ∨ k = 518 ∨ k = 519 ∨ (525 ≤ k ∧ k ≤ 527) → P k = false) (hq : ∀ k, 191 ≤ k → k ≤ 218 → Q k = false) (hs : ∀ a b, (a, b) ∈ wX w → xL τ a = xL σ a) (h44 : ∀ k, k < 46 → τm.2.2.1 44 k = μ.2.2.1 44 k) : HO w' τ τm := by
  obtain ⟨h1, h2, h3, h4, h5, h6, h7, h8, h9⟩ := H
  obtain ⟨_, l2, l3, _⟩ := wl
  have i392 := fr.2.2.1 392 (hp _ (by omega))
  have i393 := fr.2.2.1 393 (hp _ (by omega))
  have i518 := fr.2.2.1 518 (hp _ (by omega))
  have j519 := fr.2.2.2 519 (hp _ (by omega))
  have i217 := frm.2.2.1 217 (hq _ (by omega) (by omega))
  have i218 := frm.2.2.1 218 (hq _ (by omega) (by omega))
  refine ⟨fun k hk => ?_, fun k hk => ?_, fun k hk => ?_, ?_, ?_, ?_, ?_, ?_, fun k hk => ?_⟩
  · have r := hnm_rng hk
    rw [i392, mf_F frm (hq _ (by omega) (by omega))]
    exact l2 _ (h1 k hk)
  · rw [i393, i217]
    exact ⟨l2 _ (h2 k hk).1, by rw [hs _ _ (h2 k hk).1]; exact (h2 k hk).2⟩
  · rw [i518, i218]; exact l2 _ (h3 k hk)
  · rw [mf_F fr (hp _ (by omega)), mf_F frm (hq _ (by omega) (by omega))]; exact l2 _ h4
  · rw [mf_F fr (hp _ (by omega)), mf_F frm (hq _ (by omega) (by omega))]; exact l2 _ h5
  · rw [mf_F fr (hp _ (by omega)), mf_F frm (hq _ (by omega) (by omega))]; exact l2 _ h6
  · rw [mf_F fr (hp _ (by omega)), mf_F frm (hq _ (by omega) (by omega))]; exact l3 _ h7
  · rw [mf_F fr (hp _ (by omega)), mf_F frm (hq _ (by omega) (by omega))]; exact l3 _ h8
  · rw [j519, h44 k hk]; exact h9 k hk
theorem HO_sv {w : WD} {σ μ : mS} (S : RS w σ μ) (H : HO w σ μ) {k : Nat} (hk : k < 7) : x_sv σ (σ.2.2.1 393 k) ∧ xL σ (σ.2.2.1 393 k) = mtx (k + 1) := by
  obtain ⟨_, h2, _⟩ := H
  exact ⟨(RS_gs S (.inr (h2 k hk).1)).1.1, (h2 k hk).2⟩
/-- the name of a value's type -/
def tyI (tm : Int32) : Nat := if tm = 0 then 0 else if tm = 1 then 1 else if tm = 2 then 2 else if tm = 3 then 3 else if tm = 4 then 4 else if tm = 5 then 5 else 6
theorem tyI_lt {tm : Int32} : tyI tm < 7 := by
  simp only [tyI]
  repeat' split
  all_goals decide
theorem typeName_x {N : Nat} {w : WD} {σ : mS} {tx tm : Int32} {vx vm : Int64} (v : VV w tx vx tm vm) (h8 : tx ≠ 8) : xx6_typeName N σ tx = some (σ.2.2.1 393 (tyI tm), σ) := by
  rcases v with v | v | v | v | v | v | v | v | v
  all_goals obtain ⟨rfl, rfl, _⟩ := v
  all_goals first
    | exact absurd rfl h8
    | simp (disch := decide) only [xx6_typeName, xx6_typeName_b19, xj8_max, xj8_max_b10, lt, gd_in, if_pos, if_neg, ↓reduceIte, gd_z0, gd_z1, gd_tt, sF_fold, sG_fold, sI_fold, sJ_fold, bd, tyI]
  all_goals rfl
theorem putType_m {N : Nat} (hN : BIG ≤ N) {μ : mS} {tm : Int32} {l : List Int32} (hb : bufL μ l) (hl : l.length < 900000) : ∃ τ, mm_putType N μ tm = some τ ∧ bufL τ (l ++ mtx (tyI tm + 1)) ∧ m_fr bK μ τ := by
  have key : ∀ k, k < 76 → ∃ τ, mm_putType_69 N k μ = some τ ∧ bufL τ (l ++ mtx k) ∧ m_fr bK μ τ := fun k hk => by
    obtain ⟨τ, e1, e2, e3⟩ := putText_m hN hk hb hl
    exact ⟨τ, by rw [mm_putType_69, e1]; rfl, e2, e3⟩
  simp only [mm_putType, tyI]
  repeat' split
  all_goals exact key _ (by decide)
