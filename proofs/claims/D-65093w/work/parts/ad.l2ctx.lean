/-! LAYER 2: a run: what it comes to -/
abbrev ZR : Type := Nat → SR
abbrev EV : Type := Nat × Int32 × Int64 × mS × mS × ZR × (Int32 → Int32 → Int32 → Prop) × Int × PL2
def eN (e : EV) : Nat := e.1
def e1 (e : EV) : Int32 := e.2.1
def e2 (e : EV) : Int64 := e.2.2.1
def eσ (e : EV) : mS := e.2.2.2.1
def eμ (e : EV) : mS := e.2.2.2.2.1
def eZ (e : EV) : ZR := e.2.2.2.2.2.1
def eK (e : EV) : Int32 → Int32 → Int32 → Prop := e.2.2.2.2.2.2.1
def eQ (e : EV) : Int := e.2.2.2.2.2.2.2.1
def eX' (e : EV) : PL2 := e.2.2.2.2.2.2.2.2
def eS (e : EV) : SR := fun g p q ρ m => ∃ n, n ≤ 2000000 ∧ eZ e n g p q ρ m
/-- fields that a run changes -/
def xR (k : Nat) : Bool := (inR 128 191 k && (k != 142)) || inR 194 237 k || inR 323 339 k || inR 343 365 k || inR 396 411 k || inR 520 524 k || inR 538 541 k
def mR (k : Nat) : Bool := inR 2 57 k || inR 141 190 k || inR 219 231 k
theorem xR_f {k : Nat} (h : xR k = false) : (k < 128 ∨ 191 < k ∨ k = 142) ∧ (k < 194 ∨ 237 < k) ∧ (k < 323 ∨ 339 < k) ∧ (k < 343 ∨ 365 < k) ∧ (k < 396 ∨ 411 < k) ∧ (k < 520 ∨ 524 < k) ∧ (k < 538 ∨ 541 < k) := by
  simp only [xR, inR, Bool.or_eq_false_iff, Bool.and_eq_false_iff, decide_eq_false_iff_not, bne_eq_false_iff_eq] at h
  omega
theorem mR_t {k : Nat} (h : (2 ≤ k ∧ k ≤ 57) ∨ (141 ≤ k ∧ k ≤ 190) ∨ (219 ≤ k ∧ k ≤ 231)) : mR k = true := by
  simp only [mR, inR, Bool.or_eq_true, Bool.and_eq_true, decide_eq_true_eq]
  omega
/-- what was told, alike -/
def OU (σ μ : mS) : Prop := sF σ 524 = sF μ 220 ∧ 0 ≤ sF σ 524 ∧ sF σ 524 ≤ 16000 ∧ ∀ k, 0 ≤ k → k < sF σ 524 → sI σ 523 k &&& 255 = sI μ 219 k &&& 255
/-- what stays true beside the machines -/
def SV (e : EV) (w : WD) (σ μ : mS) : Prop := m_fr xR (eσ e) σ ∧ m_fr mR (eμ e) μ ∧ (∀ p, p ∈ eX' e → p ∈ wX w) ∧ OU σ μ ∧ sF σ 406 = 0 ∧ sF μ 181 = 0 ∧ sF μ 187 = 0
theorem SV_fr {P Q : Nat → Bool} {e : EV} {w w' : WD} {σ μ τ τm : mS} (H : SV e w σ μ) (wl : wle w w') (fr : m_fr P σ τ) (frm : m_fr Q μ τm) (hp : ∀ k, xR k = false ∨ k = 406 ∨ k = 523 ∨ k = 524 → P k = false) (hq : ∀ k, mR k = false ∨ k = 181 ∨ k = 187 ∨ k = 219 ∨ k = 220 → Q k = false) : SV e w' τ τm := by
  obtain ⟨h1, h2, h3, ⟨o1, o2, o3, o4⟩, h5, h6, h7⟩ := H
  have f524 : sF τ 524 = sF σ 524 := mf_F fr (hp _ (by omega))
  have f220 : sF τm 220 = sF μ 220 := mf_F frm (hq _ (by omega))
  refine ⟨mf_tr h1 (mf_mono fr (fun k hk => hp k (.inl hk))), mf_tr h2 (mf_mono frm (fun k hk => hq k (.inl hk))), fun p hp => wl.2.1 p (h3 p hp), ⟨by rw [f524, f220]; exact o1, by rw [f524]; exact o2, by rw [f524]; exact o3, fun k k0 k1 => ?_⟩, by rw [mf_F fr (hp _ (by omega))]; exact h5, by rw [mf_F frm (hq _ (by omega))]; exact h6, by rw [mf_F frm (hq _ (by omega))]; exact h7⟩
  rw [f524] at k1
  rw [mf_I fr (hp _ (by omega)), mf_I frm (hq _ (by omega))]
  exact o4 k k0 k1
/-- how two runs end alike -/
def FIN (e : EV) (rx rm : Int32 × mS) : Prop := ∃ w xf, QU (eS e) (eK e) (eQ e) w xf rx.2 rm.2 ∧ rx.1 = rm.1 ∧ (0 ≤ rx.1 ∧ rx.1 ≤ 3) ∧ (rx.1 = 0 → sF rx.2 402 = sF rm.2 187 ∧ 0 ≤ sF rx.2 402 ∧ sF rx.2 402 ≤ 100 ∧ (∀ k, 0 ≤ k → k < sF rx.2 402 → VV w (sI rx.2 400 k) (sJ rx.2 401 k) (sI rm.2 185 k) (sJ rm.2 186 k)) ∧ sF rm.2 183 = 0) ∧ (rx.1 = 1 → VV w (sF rx.2 403) (sG rx.2 404) (sI rm.2 185 0) (sJ rm.2 186 0) ∧ sF rm.2 187 = 1) ∧ (2 ≤ rx.1 → sF rm.2 187 = 0) ∧ (rx.1 ≠ 0 → sF rx.2 405 = sF rm.2 183) ∧ sF rx.2 396 = sF rm.2 184 ∧ m_fr xR (eσ e) rx.2 ∧ m_fr mR (eμ e) rm.2 ∧ (∀ p, p ∈ eX' e → p ∈ wX w) ∧ OU rx.2 rm.2
/-- the loops of the two runs -/
def XL (e : EV) (M : Nat) (σ : mS) (r : Int32 × mS) : Prop := ∀ n n', M < n → M < n' → xx6_run_b60 (eN e) (xx6_run_b36 (eN e) n') n (e1 e) (e2 e) 1 σ = some r
def XB (e : EV) (M : Nat) (σ : mS) (r : Int32 × mS) : Prop := ∀ n', M < n' → xx6_run_b36 (eN e) n' (e1 e) (e2 e) 1 σ = some r
def ML (e : EV) (M : Nat) (μ : mS) (r : Int32 × mS) : Prop := ∀ k, M < k → mm_endRun_30 (eN e) k μ = some r
def XE (e : EV) (M : Nat) (o : Option (Except (Nat × mS) mS)) (r : Int32 × mS) : Prop := ∀ n n', M < n → M < n' → bh o (fun z => xx6_run_b60 (eN e) (xx6_run_b36 (eN e) n') n (e1 e) (e2 e) 1 z) (fun w => if w.1 = 1107 then xx6_run_b77 (eN e) (xx6_run_b36 (eN e) n') (e1 e) (e2 e) 1 w.1 w.2 else gd (x_isStop w.1) (xx6_run_b96 (eN e) w.1 w.2)) = some r
def cE (e : EV) (n' : Nat) (o : Option (Int32 × mS)) : Option (Int32 × mS) := bd o (fun z2 => (if z2.1 ≤ 0 then xx6_run_b36 (eN e) n' (e1 e) (e2 e) 1 z2.2 else some (z2.1, z2.2)))
def CE (e : EV) (j M : Nat) (τ : mS) (r : Int32 × mS) : Prop := ∀ k n', j < k → M < n' → cE e n' (xx6_caught_b2 (eN e) k 1 τ) = some r
def uH (e : EV) (k : Nat) (o : Option (Except (Nat × mS) (Int32 × mS))) : Option (Int32 × mS) := bh o (fun z1 => (if (z1.1 : Int32) = 0 then bd (xx5_killAll (eN e) z1.2) (fun z2 => some ((1 : Int32), z2)) else xx6_caught_b2 (eN e) k ((0 : Int32)) z1.2)) (fun w3 => if w3.1 = 1107 then xx6_caught_b2 (eN e) k ((1 : Int32)) w3.2 else gd (x_isStop w3.1) (bd (xx6_stopped (eN e) w3.2 (w3.1)) (fun z5 => some (z5.1, z5.2))))
def UE (e : EV) (j M : Nat) (o : Option (Except (Nat × mS) mS)) (r : Int32 × mS) : Prop := ∀ k n', j < k → M < n' → cE e n' (uH e k (bx o (fun z4 => gd (zB ((1 : Int32))) (some (Except.ok ((1 : Int32), z4)))))) = some r
def Good (e : EV) (M : Nat) (σ μ : mS) : Prop := ∃ rx rm, XL e M σ rx ∧ ML e M μ rm ∧ FIN e rx rm
/-- fields that do not count at an end -/
def tK (k : Nat) : Bool := [16, 17, 42, 43, 188, 189, 190].contains k || inR 221 231 k
/-- the reference's run goes on to the same end, whatever a mark of the house's functions (227) says -/
def MF (e : EV) (M : Nat) (μ : mS) (rx : Int32 × mS) : Prop := ∀ μ2, m_fr (fun k => k == 227) μ μ2 → ∃ rm, ML e M μ2 rm ∧ FIN e rx rm
def MT (e : EV) (M : Nat) (μ : mS) (rx : Int32 × mS) : Prop := ∀ μ2, m_fr tK μ μ2 → ∃ rm, ML e M μ2 rm ∧ FIN e rx rm
theorem MF_mono {e : EV} {M M' : Nat} {μ : mS} {rx : Int32 × mS} (H : MF e M μ rx) (h : M ≤ M') : MF e M' μ rx := fun μ2 fr => by
  obtain ⟨rm, a, b⟩ := H μ2 fr
  exact ⟨rm, fun k hk => a k (by omega), b⟩
theorem MT_F {e : EV} {M : Nat} {μ : mS} {rx : Int32 × mS} (H : MT e M μ rx) : MF e M μ rx := fun μ2 fr => H μ2 (mf_mono fr (fun k hk => by
  simp only [tK, inR, List.contains_cons, List.contains_nil, Bool.or_eq_false_iff, beq_eq_false_iff_ne, Bool.and_eq_false_iff, decide_eq_false_iff_not] at hk
  simp only [beq_eq_false_iff_ne]; omega))
def G2 (e : EV) (j M : Nat) (o : Option (Except (Nat × mS) mS)) (m : Option mS) : Prop := ∃ rx μ', m = some μ' ∧ XE e M o rx ∧ UE e j M o rx ∧ MF e M μ' rx
/-- an error is told, and goes down -/
def GR (e : EV) (j M : Nat) (τ : mS) (m : Option mS) : Prop := ∃ rx μ', m = some μ' ∧ CE e j M τ rx ∧ MF e M μ' rx
/-- the environment is well -/
def EVok (e : EV) : Prop := 1000000000000000 ≤ eN e ∧ (∀ g p q ρ m, eS e g p q ρ m → ρ.length ≤ 2000)
theorem EV_N {e : EV} (E : EVok e) : BIG ≤ eN e := by
  have := E.1
  simp only [BIG]; omega
theorem XB_of {e : EV} {M : Nat} {σ : mS} {r : Int32 × mS} (H : XL e M σ r) (h : sF σ 406 = 0) (hM : M < eN e) : XB e (M + 1) σ r := fun n' hn => by
  obtain ⟨n, rfl⟩ : ∃ j, n' = j + 1 := ⟨n' - 1, by omega⟩
  have h' : σ.1 406 = 0 := h
  rw [xx6_run_b36, if_pos h', if_neg (by decide)]
  exact H _ n hM (by omega)
theorem XL_mono {e : EV} {M M' : Nat} {σ : mS} {r : Int32 × mS} (H : XL e M σ r) (h : M ≤ M') : XL e M' σ r := fun n n' a b => H n n' (by omega) (by omega)
theorem XB_mono {e : EV} {M M' : Nat} {σ : mS} {r : Int32 × mS} (H : XB e M σ r) (h : M ≤ M') : XB e M' σ r := fun n' b => H n' (by omega)
theorem ML_mono {e : EV} {M M' : Nat} {μ : mS} {r : Int32 × mS} (H : ML e M μ r) (h : M ≤ M') : ML e M' μ r := fun n' b => H n' (by omega)
theorem XE_ok {e : EV} {M : Nat} {σ : mS} {r : Int32 × mS} (H : XL e M σ r) : XE e M (some (.ok σ)) r := fun n n' a b => H n n' a b
theorem UE_ok {e : EV} {j M : Nat} {σ : mS} {r : Int32 × mS} (H : XB e M σ r) : UE e j M (some (.ok σ)) r := fun k n' a b => by
  obtain ⟨k, rfl⟩ : ∃ j, k = j + 1 := ⟨k - 1, by omega⟩
  have hz : gd (zB ((1 : Int32))) (some (Except.ok (ε := Nat × mS) ((1 : Int32), σ))) = some (.ok (1, σ)) := rfl
  simp only [bx, hz, uH, bh]
  rw [if_neg (by decide), xx6_caught_b2, if_pos rfl]
  simp only [cE, bd]
  rw [if_pos (by decide)]
  exact H n' b
theorem XE_br {e : EV} {j M : Nat} {σ : mS} {r : Int32 × mS} (H : CE e j M σ r) (hj : j < eN e) : XE e M (some (.error (1107, σ))) r := fun n n' a b => by
  simp only [bh]
  rw [if_pos trivial]
  have := H (eN e) n' hj b
  rw [cE] at this
  rw [xx6_run_b77, xx6_caught]
  exact this
theorem UE_br {e : EV} {j M : Nat} {σ : mS} {r : Int32 × mS} (H : CE e j M σ r) : UE e j M (some (.error (1107, σ))) r := fun k n' a b => by
  simp only [bx, uH, bh]
  rw [if_pos trivial]
  exact H k n' a b
theorem XE_st {e : EV} {M a : Nat} {σ : mS} {r : Int32 × mS} (H : xx6_stopped (eN e) σ a = some r) (ha : a = 1101 ∨ a = 1116) : XE e M (some (.error (a, σ))) r := fun n n' _ _ => by
  simp only [bh]
  rw [if_neg (by omega)]
  have : x_isStop a = true := by rcases ha with rfl | rfl <;> rfl
  rw [this]
  simp only [gd, xx6_run_b96, H, bd]
theorem UE_st {e : EV} {j M a : Nat} {σ : mS} {r : Int32 × mS} (H : xx6_stopped (eN e) σ a = some r) (ha : a = 1101 ∨ a = 1116) (hr : 0 < r.1) : UE e j M (some (.error (a, σ))) r := fun k n' _ _ => by
  simp only [bx, uH, bh]
  rw [if_neg (by omega)]
  have : x_isStop a = true := by rcases ha with rfl | rfl <;> rfl
  rw [this]
  simp only [gd, H, bd, cE]
  rw [if_neg (by lia)]
/-- the reference's end -/
def mEnd (μ : mS) : mS := md_pi (md_pi (md_ai (md_pi (md_pi (md_pi μ 143 0) 154 0) 172 120) 156 120 3) 183 (sF μ 181)) 184 (sF μ 180)
theorem ML_over {e : EV} {M : Nat} {μ : mS} (h : sF μ 178 ≠ 0) : ML e M μ (sF μ 179, mEnd μ) := fun k hk => by
  obtain ⟨k, rfl⟩ : ∃ j, k = j + 1 := ⟨k - 1, by omega⟩
  simp (disch := first | exact h | decide) only [mm_endRun_30, lt, gd_in, if_pos, if_neg, ↓reduceIte, gd_z0, gd_z1, gd_tt, sF_fold, sG_fold, sI_fold, sJ_fold, sF_pi, sF_pl, sF_ai, sF_al, sG_pi, sG_pl, sG_ai, sG_al, sI_pi, sI_pl, sI_al, sI_ai1, sI_ai2, sJ_pi, sJ_pl, sJ_ai, sJ_al1, sJ_al2, Nat.reduceEqDiff, if_true, if_false, ne_eq, not_false_eq_true, ite_true, ite_false, nar_tg, mEnd]
  rfl
theorem QU_t {S : SR} {K : Int32 → Int32 → Int32 → Prop} {q : Int} {w : WD} {xf : Int32 → List Int32} {σ μ τm : mS} (H : QU S K q w xf σ μ) (frm : m_fr tK μ τm) : QU S K q w xf σ τm := by
  have kf : ∀ k, (k < 16 ∨ (17 < k ∧ k < 42) ∨ (43 < k ∧ k < 188) ∨ (190 < k ∧ k < 221) ∨ 231 < k) → tK k = false := fun k h => by
    simp only [tK, inR, List.contains_cons, List.contains_nil, Bool.or_eq_false_iff, beq_eq_false_iff_ne, Bool.and_eq_false_iff, decide_eq_false_iff_not]
    (repeat' (first | exact trivial | omega | apply And.intro))
  obtain ⟨⟨RR, h1⟩, Z, HH, X, x0, C, o1, o2, o3, o4, o5⟩ := H
  have fx : m_fr (fun _ => false) σ σ := mf_rfl
  refine ⟨⟨by rw [fQ_e (mf_F frm (kf 171 (by omega))) (mf_I frm (kf 157 (by omega)))]; exact RH_fr RR fx frm (fun _ _ _ => rfl) (fun k a b q11 q16 q17 q42 q43 q51 => kf k (by omega)), h1⟩, Z, HO_fr HH wle_rfl fx frm (fun _ _ => rfl) (fun k a b => kf k (by omega)) (fun a b _ => rfl) (fun k _ => by rw [frm.2.2.1 44 (kf 44 (by omega))]), X, x0, CO_fr C wle_rfl rfl (cds_fr fx rfl rfl rfl) fx frm (fun _ _ => rfl) (fun k hk => kf k (by simp only [kM] at hk; omega)), by rw [mf_F frm (kf 155 (by omega))]; exact o1, o2, o3, o4, ?_⟩
  have ks : kSum w τm = kSum w μ := by
    simp only [kSum]
    congr 1
    apply List.map_congr_left
    intro p _
    rw [mf_I frm (kf 166 (by omega))]
  rw [mf_F frm (kf 155 (by omega)), ks]; exact o5
theorem FIN_t {e : EV} {rx rm : Int32 × mS} {μ2 : mS} (H : FIN e rx rm) (fr : m_fr tK rm.2 μ2) : FIN e rx (rm.1, μ2) := by
  have kf : ∀ k, (k < 16 ∨ (17 < k ∧ k < 42) ∨ (43 < k ∧ k < 188) ∨ (190 < k ∧ k < 221) ∨ 231 < k) → tK k = false := fun k h => by
    simp only [tK, inR, List.contains_cons, List.contains_nil, Bool.or_eq_false_iff, beq_eq_false_iff_ne, Bool.and_eq_false_iff, decide_eq_false_iff_not]
    (repeat' (first | exact trivial | omega | apply And.intro))
  obtain ⟨w, xf, Q, a1, a2, a3, a4, a5, a6, a7, a8, a9, b1, b2⟩ := H
  refine ⟨w, xf, QU_t Q fr, a1, a2, fun z => ?_, fun z => ?_, fun z => ?_, fun z => ?_, ?_, a8, mf_tr a9 (mf_mono fr (fun k hk => ?_)), b1, ?_⟩
  · obtain ⟨u1, u2, u3, u4, u5⟩ := a3 z
    refine ⟨by rw [mf_F fr (kf 187 (by omega))]; exact u1, u2, u3, fun k k0 k1 => ?_, by rw [mf_F fr (kf 183 (by omega))]; exact u5⟩
    rw [mf_I fr (kf 185 (by omega)), mf_J fr (kf 186 (by omega))]; exact u4 k k0 k1
  · rw [mf_I fr (kf 185 (by omega)), mf_J fr (kf 186 (by omega)), mf_F fr (kf 187 (by omega))]; exact a4 z
  · rw [mf_F fr (kf 187 (by omega))]; exact a5 z
  · rw [mf_F fr (kf 183 (by omega))]; exact a6 z
  · rw [mf_F fr (kf 184 (by omega))]; exact a7
  · simp only [mR, inR, Bool.or_eq_false_iff, Bool.and_eq_false_iff, decide_eq_false_iff_not] at hk
    exact kf k (by omega)
  · obtain ⟨u1, u2, u3, u4⟩ := b2
    refine ⟨by rw [mf_F fr (kf 220 (by omega))]; exact u1, u2, u3, fun k k0 k1 => ?_⟩
    rw [mf_I fr (kf 219 (by omega))]; exact u4 k k0 k1
/-- at an end -/
theorem MT_end {e : EV} {M : Nat} {μ : mS} {rx : Int32 × mS} (h : sF μ 178 ≠ 0) (F : FIN e rx (sF μ 179, mEnd μ)) : MT e M μ rx := fun μ2 fr => by
  have kf : ∀ k, (k < 16 ∨ (17 < k ∧ k < 42) ∨ (43 < k ∧ k < 188) ∨ (190 < k ∧ k < 221) ∨ 231 < k) → tK k = false := fun k h => by
    simp only [tK, inR, List.contains_cons, List.contains_nil, Bool.or_eq_false_iff, beq_eq_false_iff_ne, Bool.and_eq_false_iff, decide_eq_false_iff_not]
    (repeat' (first | exact trivial | omega | apply And.intro))
  have e178 : sF μ2 178 = sF μ 178 := mf_F fr (kf _ (by omega))
  have e179 : sF μ2 179 = sF μ 179 := mf_F fr (kf _ (by omega))
  have e180 : sF μ2 180 = sF μ 180 := mf_F fr (kf _ (by omega))
  have e181 : sF μ2 181 = sF μ 181 := mf_F fr (kf _ (by omega))
  refine ⟨(sF μ 179, mEnd μ2), ?_, FIN_t F ?_⟩
  · rw [← e179]; exact ML_over (by rw [e178]; exact h)
  · refine ⟨fun k hk => ?_, fun k hk => ?_, fun k hk => ?_, fun k hk => ?_⟩
    · have := fr.1 k hk
      simp only [mEnd, pi_F, ai_F, e180, e181, this]
    · exact fr.2.1 k hk
    · have := fr.2.2.1 k hk
      simp only [mEnd, pi_I, ai_I, this]
      by_cases q : k = 156
      · subst q; rw [if_pos rfl, if_pos rfl, this]
      · rw [if_neg q, if_neg q]
    · exact fr.2.2.2 k hk
theorem XB_over {e : EV} {M : Nat} {σ : mS} (h : sF σ 406 ≠ 0) : XB e M σ (0, md_ai σ 323 0 3) := fun n' hn => by
  obtain ⟨n, rfl⟩ : ∃ j, n' = j + 1 := ⟨n' - 1, by omega⟩
  simp (disch := first | exact h | decide) only [xx6_run_b36, lt, gd_in, if_pos, if_neg, ↓reduceIte, gd_z0, gd_z1, gd_tt, sF_fold, sG_fold, sI_fold, sJ_fold, nar_tg]
  rfl
theorem XL_over {e : EV} {M : Nat} {σ : mS} (h : sF σ 406 ≠ 0) : XL e M σ (0, md_ai σ 323 0 3) := fun n n' hn hn' => by
  obtain ⟨n, rfl⟩ : ∃ j, n = j + 1 := ⟨n - 1, by omega⟩
  have h' : ¬ σ.1 406 = 0 := h
  rw [xx6_run_b60, if_neg h']
  exact XB_over (e := e) (M := M) h n' hn'
theorem mEnd_fr {μ : mS} : m_fr eM μ (mEnd μ) := mf_pi (mf_pi (mf_ai (mf_pi (mf_pi (mf_pi mf_rfl rfl) rfl) rfl) rfl) rfl) rfl
/-- a run stops for want of room or fuel -/
theorem stop_2 {e : EV} (E : EVok e) {w : WD} {xf : Int32 → List Int32} {c d : Int32} {rest : PL2} {σ μ : mS} (H : ME (eS e) (eK e) (eQ e) w xf c d rest σ μ) (V : SV e w σ μ) (hl : LK σ (mff μ) (sI μ 162 d) (xf c) (sF μ 154)) {a : Nat} {why : Int32} (ha : (a = 1101 ∧ why = 3) ∨ (a = 1116 ∧ why = 2)) : ∃ rx μ', mm_breakOff (eN e) μ why = some μ' ∧ xx6_stopped (eN e) σ a = some rx ∧ 0 < rx.1 ∧ ∀ M, MT e M μ' rx := by
  have hN := EV_N E
  have cl := ME_calls H
  have C := H.2.2.2.2.1
  have B := H.2.2.2.2.2.1
  have W := H.1.1.1
  have fuel := H.2.2.2.2.2.2.2.2.2.1
  obtain ⟨ncx, pcx⟩ := cX_nd C
  have nowc : sF σ 339 = c ∧ sF μ 172 = d := ⟨H.2.2.2.2.2.2.1.1, H.2.2.2.2.2.2.1.2.1⟩
  have ov : sF μ 178 = 0 := H.2.2.2.2.2.2.2.2.2.2.2
  have nd : (c :: rest.map Prod.fst).Nodup := by have := H.2.2.2.2.2.2.2.1; simpa using this
  have la := lah_2 hN H hl (by lia)
  have mem := BC_mem B
  have chc : ∀ x, x ∈ c :: rest.map Prod.fst → x ∈ cX w := fun x hx => by
    have : x ∈ ((c, d) :: rest).map Prod.fst := by simpa using hx
    obtain ⟨p, p1, p2⟩ := List.mem_map.mp this
    rcases mem p p1 with z | z
    · rw [z] at p2; rw [← p2]; exact List.mem_cons_self
    · rw [← p2]; exact List.mem_cons_of_mem _ (List.mem_map.mpr ⟨p, z.1, rfl⟩)
  have lenc : rest.length < 202 := by
    have := List.Nodup.length_le_of_subset nd (l₂ := cX w) chc
    obtain ⟨_, _, ⟨fcs, _, _, _, q4⟩, _⟩ := C
    rw [List.length_append] at q4
    simp only [cX, List.length_cons, List.length_map] at this q4
    omega
  -- the system
  have frL : m_fr (fun k => k == 405) σ (md_pi σ 405 (lnH σ (xf c))) := mf_pi mf_rfl rfl
  have XL1 : XF w xf (md_pi σ 405 (lnH σ (xf c))) := XF_fr H.2.2.2.1 rfl frL (fun k hk => by simp only [kX] at hk; simp only [beq_eq_false_iff_ne]; omega)
  have ch1 : ∀ (l : List Int32), chX σ l → chX (md_pi σ 405 (lnH σ (xf c))) l := by
    intro l
    induction l with
    | nil => exact fun h => h
    | cons a l ih =>
      intro h
      cases l with
      | nil => exact h
      | cons b l =>
        obtain ⟨p1, p2, p3⟩ := h
        exact ⟨p1, by simp only [sF_pi, sF_pl, sF_ai, sF_al, sG_pi, sG_pl, sG_ai, sG_al, sI_pi, sI_pl, sI_al, sI_ai1, sI_ai2, sJ_pi, sJ_pl, sJ_ai, sJ_al1, sJ_al2, Nat.reduceEqDiff, if_true, if_false, ne_eq, not_false_eq_true, ite_true, ite_false]; exact p2, ih p3⟩
  obtain ⟨τ, k1, k2, k3, k4, k5, k6, k7⟩ := killAll_lp hN ncx pcx (rest.map Prod.fst) c xf (md_pi σ 405 (lnH σ (xf c))) (eN e) XL1 (ch1 _ (BC_chX W B)) chc nd (by rw [List.length_map]; have := E.1; omega)
  have st : xx6_stopped (eN e) σ a = some (why, τ) := by
    have t1 : x_all.contains 1101 = true := by decide +kernel
    have t2 : x_all.contains 1116 = true := by decide +kernel
    have kk : xx5_killAll (eN e) (md_pi σ 405 (lnH σ (xf c))) = some τ := by
      rw [xx5_killAll]
      simp only [lt, sF_fold, sF_pi, sF_pl, sF_ai, sF_al, sG_pi, sG_pl, sG_ai, sG_al, sI_pi, sI_pl, sI_al, sI_ai1, sI_ai2, sJ_pi, sJ_pl, sJ_ai, sJ_al1, sJ_al2, Nat.reduceEqDiff, if_true, if_false, ne_eq, not_false_eq_true, ite_true, ite_false, nowc.1]
      exact k1
    rw [xx6_stopped, la.1]
    simp only [bd, lt, kk]
    rcases ha with ⟨rfl, rfl⟩ | ⟨rfl, rfl⟩
    · simp only [t1, t2, Bool.and_self, gd, xx6_stopped_b28]
      rfl
    · simp only [t2, Bool.and_self, gd, xx6_stopped_b28]
      rfl
  -- the reference
  have frM : m_fr (fun k => [178, 179, 181].contains k) μ (md_pi (md_pi (md_pi μ 178 1) 179 why) 181 (lnH σ (xf c))) := mf_pi (mf_pi (mf_pi mf_rfl rfl) rfl) rfl
  have laM : mm_lineAtHand (eN e) (md_pi (md_pi μ 178 1) 179 why) = some (lnH σ (xf c), md_pi (md_pi μ 178 1) 179 why) := by
    have fr2 : m_fr (fun k => [178, 179].contains k) μ (md_pi (md_pi μ 178 1) 179 why) := mf_pi (mf_pi mf_rfl rfl) rfl
    have kb := BC_kb B
    have cc := ME_c H
    have hl2 : LK σ (mff (md_pi (md_pi μ 178 1) 179 why)) (sI μ 162 d) (xf c) (sF μ 154) := by
      have e : ∀ k j, mff (md_pi (md_pi μ 178 1) 179 why) k j = mff μ k j := fun k j => by simp only [mff, sF_pi, sF_pl, sF_ai, sF_al, sG_pi, sG_pl, sG_ai, sG_al, sI_pi, sI_pl, sI_al, sI_ai1, sI_ai2, sJ_pi, sJ_pl, sJ_ai, sJ_al1, sJ_al2, Nat.reduceEqDiff, if_true, if_false, ne_eq, not_false_eq_true, ite_true, ite_false]
      have e2 : mff (md_pi (md_pi μ 178 1) 179 why) = mff μ := by funext k j; exact e k j
      rw [e2]; exact hl
    have len : (xf c).length ≤ 202 := by
      have := LK_len hl
      have := kb.1
      rw [tI_le] at this
      have c2 := cl.2.1
      rw [tI_le] at c2
      have z0 : (0 : Int32).toInt = 0 := rfl
      have z2 : (200 : Int32).toInt = 200 := rfl
      simp only at this
      omega
    refine lah_m hN ?_ ?_ ?_ ?_ ?_ len
    · simp only [sF_pi, sF_pl, sF_ai, sF_al, sG_pi, sG_pl, sG_ai, sG_al, sI_pi, sI_pl, sI_al, sI_ai1, sI_ai2, sJ_pi, sJ_pl, sJ_ai, sJ_al1, sJ_al2, Nat.reduceEqDiff, if_true, if_false, ne_eq, not_false_eq_true, ite_true, ite_false, nowc.2]; exact hl2
    · simp only [sF_pi, sF_pl, sF_ai, sF_al, sG_pi, sG_pl, sG_ai, sG_al, sI_pi, sI_pl, sI_al, sI_ai1, sI_ai2, sJ_pi, sJ_pl, sJ_ai, sJ_al1, sJ_al2, Nat.reduceEqDiff, if_true, if_false, ne_eq, not_false_eq_true, ite_true, ite_false, nowc.2]; exact kb.1
    · simp only [sF_pi, sF_pl, sF_ai, sF_al, sG_pi, sG_pl, sG_ai, sG_al, sI_pi, sI_pl, sI_al, sI_ai1, sI_ai2, sJ_pi, sJ_pl, sJ_ai, sJ_al1, sJ_al2, Nat.reduceEqDiff, if_true, if_false, ne_eq, not_false_eq_true, ite_true, ite_false]; lia
    · simp only [sF_pi, sF_pl, sF_ai, sF_al, sG_pi, sG_pl, sG_ai, sG_al, sI_pi, sI_pl, sI_al, sI_ai1, sI_ai2, sJ_pi, sJ_pl, sJ_ai, sJ_al1, sJ_al2, Nat.reduceEqDiff, if_true, if_false, ne_eq, not_false_eq_true, ite_true, ite_false, nowc.2]; exact cc.2.2.2.1
    · simp only [sF_pi, sF_pl, sF_ai, sF_al, sG_pi, sG_pl, sG_ai, sG_al, sI_pi, sI_pl, sI_al, sI_ai1, sI_ai2, sJ_pi, sJ_pl, sJ_ai, sJ_al1, sJ_al2, Nat.reduceEqDiff, if_true, if_false, ne_eq, not_false_eq_true, ite_true, ite_false, nowc.2]; exact cc.2.2.2.2.1
  have chm : ∀ (l : List Int32), chM μ l → chM (md_pi (md_pi (md_pi μ 178 1) 179 why) 181 (lnH σ (xf c))) l := by
    intro l
    induction l with
    | nil => exact fun h => h
    | cons a l ih =>
      intro h
      cases l with
      | nil => exact h
      | cons b l =>
        obtain ⟨p1, p2, p3⟩ := h
        exact ⟨p1, by simp only [sF_pi, sF_pl, sF_ai, sF_al, sG_pi, sG_pl, sG_ai, sG_al, sI_pi, sI_pl, sI_al, sI_ai1, sI_ai2, sJ_pi, sJ_pl, sJ_ai, sJ_al1, sJ_al2, Nat.reduceEqDiff, if_true, if_false, ne_eq, not_false_eq_true, ite_true, ite_false]; exact p2, ih p3⟩
  obtain ⟨μ', d1, d2, d3, d4, d5, d6⟩ := allDead_lp (N := eN e) (rest.map Prod.snd) d _ (eN e) (chm _ (BC_chM W B)) (by rw [List.length_map]; have := E.1; omega)
  have bo : mm_breakOff (eN e) μ why = some μ' := by
    have ad : mm_allDead (eN e) (md_pi (md_pi (md_pi μ 178 1) 179 why) 181 (lnH σ (xf c))) = some μ' := by
      rw [mm_allDead]
      simp only [lt, sF_fold, sF_pi, sF_pl, sF_ai, sF_al, sG_pi, sG_pl, sG_ai, sG_al, sI_pi, sI_pl, sI_al, sI_ai1, sI_ai2, sJ_pi, sJ_pl, sJ_ai, sJ_al1, sJ_al2, Nat.reduceEqDiff, if_true, if_false, ne_eq, not_false_eq_true, ite_true, ite_false, nowc.2]
      exact d1
    simp (disch := first | exact ov | decide) only [mm_breakOff, lt, gd_in, if_pos, if_neg, ↓reduceIte, gd_z0, gd_z1, gd_tt, sF_fold, sG_fold, sI_fold, sJ_fold]
    simp only [laM, bd, lt, ad]
  have f178 : sF μ' 178 = 1 := by rw [mf_F d2 rfl]; simp only [sF_pi, sF_pl, sF_ai, sF_al, sG_pi, sG_pl, sG_ai, sG_al, sI_pi, sI_pl, sI_al, sI_ai1, sI_ai2, sJ_pi, sJ_pl, sJ_ai, sJ_al1, sJ_al2, Nat.reduceEqDiff, if_true, if_false, ne_eq, not_false_eq_true, ite_true, ite_false]
  have f179 : sF μ' 179 = why := by rw [mf_F d2 rfl]; simp only [sF_pi, sF_pl, sF_ai, sF_al, sG_pi, sG_pl, sG_ai, sG_al, sI_pi, sI_pl, sI_al, sI_ai1, sI_ai2, sJ_pi, sJ_pl, sJ_ai, sJ_al1, sJ_al2, Nat.reduceEqDiff, if_true, if_false, ne_eq, not_false_eq_true, ite_true, ite_false]
  have f181 : sF μ' 181 = lnH σ (xf c) := by rw [mf_F d2 rfl]; simp only [sF_pi, sF_pl, sF_ai, sF_al, sG_pi, sG_pl, sG_ai, sG_al, sI_pi, sI_pl, sI_al, sI_ai1, sI_ai2, sJ_pi, sJ_pl, sJ_ai, sJ_al1, sJ_al2, Nat.reduceEqDiff, if_true, if_false, ne_eq, not_false_eq_true, ite_true, ite_false]
  have dMe : ∀ k, eM k = false → dM k = false := fun k hk => by
    simp only [eM, dM, List.contains_cons, List.contains_nil, Bool.or_eq_false_iff, beq_eq_false_iff_ne] at hk ⊢
    (repeat' (first | exact trivial | omega | apply And.intro))
  have fre : m_fr eM μ (mEnd μ') := mf_tr (mf_tr (mf_mono frM (fun k hk => by
    simp only [eM, List.contains_cons, List.contains_nil, Bool.or_eq_false_iff, beq_eq_false_iff_ne] at hk ⊢
    (repeat' (first | exact trivial | omega | apply And.intro)))) (mf_mono d2 dMe)) mEnd_fr
  have frx : m_fr eX σ τ := mf_tr (mf_mono frL (fun k hk => by
    simp only [eX, Bool.or_eq_false_iff, Bool.and_eq_false_iff, decide_eq_false_iff_not] at hk
    simp only [beq_eq_false_iff_ne]; omega)) (mf_mono k3 (fun k hk => by
    simp only [eX, Bool.or_eq_false_iff] at hk
    exact hk.1))
  have QQ : QU (eS e) (eK e) (eQ e) w (fE xf (c :: rest.map Prod.fst)) τ (mEnd μ') := by
    refine QU_of H hl k2 frx fre ?_ (fun x x0 _ => ?_) (fun x x0 _ => ?_) ?_ (fun x x0 x1 => ?_)
    · rw [k4, List.length_map]; simp only [sF_pi, sF_pl, sF_ai, sF_al, sG_pi, sG_pl, sG_ai, sG_al, sI_pi, sI_pl, sI_al, sI_ai1, sI_ai2, sJ_pi, sJ_pl, sJ_ai, sJ_al1, sJ_al2, Nat.reduceEqDiff, if_true, if_false, ne_eq, not_false_eq_true, ite_true, ite_false]
    · rw [k5 x x0]; simp only [sF_pi, sF_pl, sF_ai, sF_al, sG_pi, sG_pl, sG_ai, sG_al, sI_pi, sI_pl, sI_al, sI_ai1, sI_ai2, sJ_pi, sJ_pl, sJ_ai, sJ_al1, sJ_al2, Nat.reduceEqDiff, if_true, if_false, ne_eq, not_false_eq_true, ite_true, ite_false]
    · rw [k6 x x0]; simp only [sF_pi, sF_pl, sF_ai, sF_al, sG_pi, sG_pl, sG_ai, sG_al, sI_pi, sI_pl, sI_al, sI_ai1, sI_ai2, sJ_pi, sJ_pl, sJ_ai, sJ_al1, sJ_al2, Nat.reduceEqDiff, if_true, if_false, ne_eq, not_false_eq_true, ite_true, ite_false]
    · have : sF (mEnd μ') 155 = sF μ' 155 := by simp only [mEnd, sF_pi, sF_pl, sF_ai, sF_al, sG_pi, sG_pl, sG_ai, sG_al, sI_pi, sI_pl, sI_al, sI_ai1, sI_ai2, sJ_pi, sJ_pl, sJ_ai, sJ_al1, sJ_al2, Nat.reduceEqDiff, if_true, if_false, ne_eq, not_false_eq_true, ite_true, ite_false]
      rw [this, d3]; simp only [sF_pi, sF_pl, sF_ai, sF_al, sG_pi, sG_pl, sG_ai, sG_al, sI_pi, sI_pl, sI_al, sI_ai1, sI_ai2, sJ_pi, sJ_pl, sJ_ai, sJ_al1, sJ_al2, Nat.reduceEqDiff, if_true, if_false, ne_eq, not_false_eq_true, ite_true, ite_false]
    · have : sI (mEnd μ') 156 x = sI μ' 156 x := by
        simp only [mEnd, sF_pi, sF_pl, sF_ai, sF_al, sG_pi, sG_pl, sG_ai, sG_al, sI_pi, sI_pl, sI_al, sI_ai1, sI_ai2, sJ_pi, sJ_pl, sJ_ai, sJ_al1, sJ_al2, Nat.reduceEqDiff, if_true, if_false, ne_eq, not_false_eq_true, ite_true, ite_false]
        rw [show (120 : Nat) = (120 : Int32).toNatClampNeg from rfl, sI_ai (by decide) x0, if_neg (fun q => by lia)]
        simp only [sF_pi, sF_pl, sF_ai, sF_al, sG_pi, sG_pl, sG_ai, sG_al, sI_pi, sI_pl, sI_al, sI_ai1, sI_ai2, sJ_pi, sJ_pl, sJ_ai, sJ_al1, sJ_al2, Nat.reduceEqDiff, if_true, if_false, ne_eq, not_false_eq_true, ite_true, ite_false]
      rw [this, d6 x x0 x1]; simp only [sF_pi, sF_pl, sF_ai, sF_al, sG_pi, sG_pl, sG_ai, sG_al, sI_pi, sI_pl, sI_al, sI_ai1, sI_ai2, sJ_pi, sJ_pl, sJ_ai, sJ_al1, sJ_al2, Nat.reduceEqDiff, if_true, if_false, ne_eq, not_false_eq_true, ite_true, ite_false]
  obtain ⟨v1, v2, v3, ⟨u1, u2, u3, u4⟩, v5, v6, v7⟩ := V
  suffices FN : FIN e (why, τ) (sF μ' 179, mEnd μ') by
    refine ⟨(why, τ), μ', bo, st, ?_, fun M => MT_end (by rw [f178]; decide) FN⟩
    rcases ha with ⟨_, rfl⟩ | ⟨_, rfl⟩
    · exact (show (0 : Int32) < 3 by decide)
    · exact (show (0 : Int32) < 2 by decide)
  refine ⟨w, _, QQ, ?_, ?_, ?_, ?_, ?_, ?_, ?_, ?_, ?_, v3, ?_⟩
  · exact f179.symm
  · rcases ha with ⟨_, rfl⟩ | ⟨_, rfl⟩
    · exact (show (0 : Int32) ≤ 3 ∧ (3 : Int32) ≤ 3 by decide)
    · exact (show (0 : Int32) ≤ 2 ∧ (2 : Int32) ≤ 3 by decide)
  · intro z
    rcases ha with ⟨_, rfl⟩ | ⟨_, rfl⟩
    · exact absurd (show (3 : Int32) = 0 from z) (by decide)
    · exact absurd (show (2 : Int32) = 0 from z) (by decide)
  · intro z
    rcases ha with ⟨_, rfl⟩ | ⟨_, rfl⟩
    · exact absurd (show (3 : Int32) = 1 from z) (by decide)
    · exact absurd (show (2 : Int32) = 1 from z) (by decide)
  · intro _
    have : sF (mEnd μ') 187 = sF μ' 187 := by simp only [mEnd, sF_pi, sF_pl, sF_ai, sF_al, sG_pi, sG_pl, sG_ai, sG_al, sI_pi, sI_pl, sI_al, sI_ai1, sI_ai2, sJ_pi, sJ_pl, sJ_ai, sJ_al1, sJ_al2, Nat.reduceEqDiff, if_true, if_false, ne_eq, not_false_eq_true, ite_true, ite_false]
    simp only
    rw [this, mf_F d2 rfl]; simp only [sF_pi, sF_pl, sF_ai, sF_al, sG_pi, sG_pl, sG_ai, sG_al, sI_pi, sI_pl, sI_al, sI_ai1, sI_ai2, sJ_pi, sJ_pl, sJ_ai, sJ_al1, sJ_al2, Nat.reduceEqDiff, if_true, if_false, ne_eq, not_false_eq_true, ite_true, ite_false]; exact v7
  · intro _
    have a1 : sF (mEnd μ') 183 = sF μ' 181 := by simp only [mEnd, sF_pi, sF_pl, sF_ai, sF_al, sG_pi, sG_pl, sG_ai, sG_al, sI_pi, sI_pl, sI_al, sI_ai1, sI_ai2, sJ_pi, sJ_pl, sJ_ai, sJ_al1, sJ_al2, Nat.reduceEqDiff, if_true, if_false, ne_eq, not_false_eq_true, ite_true, ite_false]
    simp only
    rw [a1, f181, mf_F k3 (kK_f (by omega))]; simp only [sF_pi, sF_pl, sF_ai, sF_al, sG_pi, sG_pl, sG_ai, sG_al, sI_pi, sI_pl, sI_al, sI_ai1, sI_ai2, sJ_pi, sJ_pl, sJ_ai, sJ_al1, sJ_al2, Nat.reduceEqDiff, if_true, if_false, ne_eq, not_false_eq_true, ite_true, ite_false]
  · have a1 : sF (mEnd μ') 184 = sF μ' 180 := by simp only [mEnd, sF_pi, sF_pl, sF_ai, sF_al, sG_pi, sG_pl, sG_ai, sG_al, sI_pi, sI_pl, sI_al, sI_ai1, sI_ai2, sJ_pi, sJ_pl, sJ_ai, sJ_al1, sJ_al2, Nat.reduceEqDiff, if_true, if_false, ne_eq, not_false_eq_true, ite_true, ite_false]
    simp only
    rw [a1, mf_F d2 rfl, mf_F k3 (kK_f (by omega))]; simp only [sF_pi, sF_pl, sF_ai, sF_al, sG_pi, sG_pl, sG_ai, sG_al, sI_pi, sI_pl, sI_al, sI_ai1, sI_ai2, sJ_pi, sJ_pl, sJ_ai, sJ_al1, sJ_al2, Nat.reduceEqDiff, if_true, if_false, ne_eq, not_false_eq_true, ite_true, ite_false]; exact fuel
  · refine mf_tr v1 (mf_mono frx (fun k hk => eX_f ?_))
    have := xR_f hk
    omega
  · refine mf_tr v2 (mf_mono fre (fun k hk => eM_f ?_))
    simp only [mR, inR, Bool.or_eq_false_iff, Bool.and_eq_false_iff, decide_eq_false_iff_not] at hk
    omega
  · have a1 : sF τ 524 = sF σ 524 := mf_F frx (eX_f (by omega))
    have a2 : sF (mEnd μ') 220 = sF μ 220 := mf_F fre (eM_f (by omega))
    refine ⟨?_, ?_, ?_, fun k k0 k1 => ?_⟩
    · simp only; rw [a1, a2]; exact u1
    · simp only; rw [a1]; exact u2
    · simp only; rw [a1]; exact u3
    · simp only at k1 ⊢
      rw [a1] at k1
      rw [mf_I frx (eX_f (by omega)), mf_I fre (eM_f (by omega))]; exact u4 k k0 k1
