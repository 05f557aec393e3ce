/-! LAYER 2: step rules: what a rule has at hand; boxes -/
def CXT (e : EV) (M : Nat) (F n : Int32) (rk : Nat) : Prop := EVok e ∧ M + 5000 < eN e ∧ ZRok e ∧ KOK e ∧ LBst e ∧ GK e M F n rk ∧ (∀ F', 0 ≤ F' → F' < F → HG e M F' 200) ∧ (∀ k, GFst e M F (n - 1) k ∧ RAst e M F (n - 1) k)
theorem good_UO {e : EV} {w : WD} {xf : Int32 → List Int32} {c d : Int32} {rest : PL2} {f : Int32} {fl : List Int32} {ρ : List Int32} {m : Int32} {g p q F n : Int32} {σ μ : mS} {w' : WD} {M rk : Nat} {τ τm : mS} (C : CXT e M F n rk) (A : PT e w xf c d rest f fl ρ m g p q F n σ μ) {ox : Option (Except (Nat × mS) mS)} {om : Option mS} (hx : xx6_step (eN e) σ = ox) (hm : mm_act (eN e) μ = om) (U : UO e w' xf c d rest τ τm (fun z => z) ox om) (hF : sF τ 396 = F) (hn : sF τm 154 = n) : Good e (M + 3000) σ μ :=
  Good_mono (good_b (PT_0 A).1 (PT_0 A).2 hx hm (UO_G2 C.1 ((C.2.2.2.2.2.2.2 200).2) U hF (by rw [hn]; exact Int32.le_refl _))) (by omega)
/-- the heap changes -/
theorem ST_hp {e : EV} {w : WD} {xf : Int32 → List Int32} {c d : Int32} {rest : PL2} {f : Int32} {fl : List Int32} {ρ : List Int32} {m : Int32} {g p q F n : Int32} {σ μ : mS} {P Q : Nat → Bool} {w' : WD} {τ τm : mS} (S : ST e w xf c d rest f fl ρ m g p q F n σ μ) (R : RH (eK e) (eQ e + fQ μ) w' τ τm) (wl : wle w w') (hC : wC w' = wC w) (hS : wS w' = wS w) (hX : wX w' = wX w) (hc : cds w σ τ) (fr : m_fr P σ τ) (frm : m_fr Q μ τm) (hp : ∀ k, k < 194 ∨ 237 < k → P k = false) (hq : ∀ k, k < 16 ∨ 57 < k → Q k = false) (h44 : ∀ k, k < 46 → τm.2.2.1 44 k = μ.2.2.1 44 k) : ST e w' xf c d rest f fl ρ m g p q F n τ τm := by
  obtain ⟨⟨⟨H, T⟩, a1, a2, a3, a4, a5⟩, b1, b2⟩ := S
  have M := ME_hp H.1 R wl hC hS hX hc fr frm hp hq h44
  have V := SV_hp H.2.1 wl fr frm hp hq
  have kx : ∀ k, kX k → P k = false := fun k hk => hp k (by rcases hk with hk | hk <;> omega)
  have km : ∀ k, kM k → Q k = false := fun k hk => hq k (.inr (by have := hk.1; omega))
  have e154 : sF τm 154 = sF μ 154 := mf_F frm (km 154 ⟨by omega, by omega⟩)
  refine ⟨⟨⟨MR0_fr H M V wl hc fr frm kx km, by rw [e154]; exact TP_fr T wl fr frm kx km⟩, (mf_I fr (kx 344 (.inr (by omega)))).trans a1, (mf_I fr (kx 346 (.inr (by omega)))).trans a2, ?_, (mf_F fr (hp 396 (.inr (by omega)))).trans a4, e154.trans a5⟩, ?_, (mf_F fr (hp 411 (.inr (by omega)))).trans b2⟩
  · rw [e154, mff_fr frm km (by omega)]; exact a3
  · rw [mf_F fr (hp 410 (.inr (by omega))), mf_I fr (kx 347 (.inr (by omega)))]; exact b1
theorem LE_fr {P Q : Nat → Bool} {σ μ τ τm : mS} {f k : Int32} (L : LE σ (mff μ) f k) (fr : m_fr P σ τ) (frm : m_fr Q μ τm) (p1 : P 345 = false) (p2 : P 257 = false) (q1 : Q 152 = false) : LE τ (mff τm) f k := by
  have e : mff τm k 8 = mff μ k 8 := mf_I frm q1
  simp only [LE] at L ⊢
  rw [e, mf_I fr p1, mf_I fr p2]
  exact L
/-- a box gets a value -/
def bW (σ : mS) (kt kv : Nat) (b t : Int32) (v : Int64) : mS := md_al (md_ai σ kt b.toNatClampNeg t) kv b.toNatClampNeg v
theorem bW_I {σ : mS} {kt kv : Nat} {b t x : Int32} {v : Int64} (b0 : 0 ≤ b) (x0 : 0 ≤ x) : sI (bW σ kt kv b t v) kt x = if x = b then t else sI σ kt x := by
  rw [show sI (bW σ kt kv b t v) kt x = sI (md_ai σ kt b.toNatClampNeg t) kt x from rfl, sI_aj b0 x0]
theorem bW_J {σ : mS} {kt kv : Nat} {b t x : Int32} {v : Int64} (b0 : 0 ≤ b) (x0 : 0 ≤ x) : sJ (bW σ kt kv b t v) kv x = if x = b then v else sJ σ kv x := by
  rw [bW, sJ_lj b0 x0]; rfl
theorem inBox_h {K : Int32 → Int32 → Int32 → Prop} {q : Int} {w : WD} {σ μ : mS} {a b tx tm : Int32} {vx vm : Int64} (H : RH K q w σ μ) (h : (a, b) ∈ wB w) (v : VV w tx vx tm vm) : (0 ≤ a ∧ a < 12000) ∧ (0 ≤ b ∧ b < 12000) ∧ RH K q w (bW σ 233 234 a tx vx) (bW μ 53 54 b tm vm) ∧ m_fr (fun k => [233, 234].contains k) σ (bW σ 233 234 a tx vx) ∧ m_fr (fun k => [53, 54].contains k) μ (bW μ 53 54 b tm vm) := by
  obtain ⟨W, S, ⟨es, es', R⟩, F, ⟨⟨fb, B1⟩, B2, B3⟩, s1, s2, s3, s4⟩ := H
  have fr : m_fr (fun k => [233, 234].contains k) σ (bW σ 233 234 a tx vx) := mf_al (mf_ai mf_rfl rfl) rfl
  have frm : m_fr (fun k => [53, 54].contains k) μ (bW μ 53 54 b tm vm) := mf_al (mf_ai mf_rfl rfl) rfl
  have a01 := B1.2.2.1 a (List.mem_append_left _ (List.mem_map.mpr ⟨(a, b), h, rfl⟩))
  have b01 := B2.1.2.2.2.2.2.1 b (List.mem_map.mpr ⟨(a, b), h, rfl⟩)
  have bx : ∀ k, k ≤ 232 ∨ 235 ≤ k → (fun k => [233, 234].contains k) k = false := fun k hk => by
    simp only [List.contains_cons, List.contains_nil, Bool.or_eq_false_iff, beq_eq_false_iff_ne]
    (repeat' (first | exact trivial | omega | apply And.intro))
  have bm : ∀ k, k ≤ 52 ∨ 55 ≤ k → (fun k => [53, 54].contains k) k = false := fun k hk => by
    simp only [List.contains_cons, List.contains_nil, Bool.or_eq_false_iff, beq_eq_false_iff_ne]
    (repeat' (first | exact trivial | omega | apply And.intro))
  have b01' : 0 ≤ b ∧ b < 12000 := ⟨b01.1, by have := b01.2; lia⟩
  have e235 : sI (bW σ 233 234 a tx vx) 235 = sI σ 235 := funext fun i => mf_I fr rfl
  have e55 : sI (bW μ 53 54 b tm vm) 55 = sI μ 55 := funext fun i => mf_I frm rfl
  have f18 : sF (bW μ 53 54 b tm vm) 18 = sF μ 18 := mf_F frm rfl
  have f29 : sF (bW μ 53 54 b tm vm) 29 = sF μ 29 := mf_F frm rfl
  have f48 : sF (bW μ 53 54 b tm vm) 48 = sF μ 48 := mf_F frm rfl
  refine ⟨a01, b01', ⟨W, RS_fr S fr frm (fun k _ _ => bx k (by omega)) (fun k _ _ _ => bm k (by omega)), ⟨es, es', RT_fr R wle_rfl rfl fr frm (fun k _ => bx k (by omega)) (fun k _ => bm k (by omega))⟩, RF_fr F wle_rfl rfl fr frm (fun k _ _ => bx k (by omega)) (fun k _ _ _ => bm k (by omega)), ⟨⟨fb, ?_⟩, ?_, fun c d hcd => ?_⟩, ?_, by rw [f18]; exact s2, by rw [f18, f29, f48]; exact s3, s4⟩, fr, frm⟩
  · simp only [BX] at B1 ⊢
    rw [e235, mf_F fr (k := 236) rfl, mf_F fr (k := 237) rfl]
    exact B1
  · simp only [BM] at B2 ⊢
    rw [e55, mf_F frm (k := 56) rfl, mf_F frm (k := 57) rfl]
    exact B2
  · have c01 := B1.2.2.1 c (List.mem_append_left _ (List.mem_map.mpr ⟨(c, d), hcd, rfl⟩))
    have d01 := B2.1.2.2.2.2.2.1 d (List.mem_map.mpr ⟨(c, d), hcd, rfl⟩)
    have eq := W.2.2.2.1 c d a b hcd h
    rw [bW_I a01.1 c01.1, bW_J a01.1 c01.1, bW_I b01.1 d01.1, bW_J b01.1 d01.1]
    by_cases ca : c = a
    · rw [if_pos ca, if_pos ca, if_pos (eq.mp ca), if_pos (eq.mp ca)]; exact v
    · rw [if_neg ca, if_neg ca, if_neg (fun z => ca (eq.mpr z)), if_neg (fun z => ca (eq.mpr z))]; exact B3 c d hcd
  · rw [f18, mf_G fr (k := 194) rfl]; exact s1
/-- what is in a box -/
theorem box_V {K : Int32 → Int32 → Int32 → Prop} {q : Int} {w : WD} {σ μ : mS} {a b : Int32} (H : RH K q w σ μ) (h : (a, b) ∈ wB w) : (0 ≤ a ∧ a < 12000) ∧ (0 ≤ b ∧ b < 12000) ∧ VV w (sI σ 233 a) (sJ σ 234 a) (sI μ 53 b) (sJ μ 54 b) := by
  obtain ⟨W, S, _, F, ⟨⟨fb, B1⟩, B2, B3⟩, _⟩ := H
  have a01 := B1.2.2.1 a (List.mem_append_left _ (List.mem_map.mpr ⟨(a, b), h, rfl⟩))
  have b01 := B2.1.2.2.2.2.2.1 b (List.mem_map.mpr ⟨(a, b), h, rfl⟩)
  exact ⟨a01, ⟨b01.1, by have := b01.2; lia⟩, B3 a b h⟩
theorem inBox_S {e : EV} {w : WD} {xf : Int32 → List Int32} {c d : Int32} {rest : PL2} {f : Int32} {fl : List Int32} {ρ : List Int32} {m : Int32} {g p q F n : Int32} {σ μ : mS} {a b tx tm : Int32} {vx vm : Int64} (S : ST e w xf c d rest f fl ρ m g p q F n σ μ) (h : (a, b) ∈ wB w) (v : VV w tx vx tm vm) : (0 ≤ a ∧ a < 12000) ∧ (0 ≤ b ∧ b < 12000) ∧ ST e w xf c d rest f fl ρ m g p q F n (bW σ 233 234 a tx vx) (bW μ 53 54 b tm vm) := by
  obtain ⟨a01, b01, R, fr, frm⟩ := inBox_h S.1.1.1.1.1.1 h v
  refine ⟨a01, b01, ST_hp S R wle_rfl rfl rfl rfl ⟨fun i => mf_I fr rfl, fun i => mf_I fr rfl, fun a b _ => mf_I fr rfl⟩ fr frm (fun k hk => ?_) (fun k hk => ?_) (fun k _ => rfl)⟩
  · simp only [List.contains_cons, List.contains_nil, Bool.or_eq_false_iff, beq_eq_false_iff_ne]
    (repeat' (first | exact trivial | omega | apply And.intro))
  · simp only [List.contains_cons, List.contains_nil, Bool.or_eq_false_iff, beq_eq_false_iff_ne]
    (repeat' (first | exact trivial | omega | apply And.intro))
/-- rare instructions -/
theorem rare_k {e : EV} {N : Nat} {τ : mS} {p k : Int32} (h0 : 0 ≤ p) (h1 : p < 339900) (h256 : ∀ i : Int32, τ.2.2.1 256 i.toNatClampNeg = nx e i) : xx6_rare N τ k 256 p = rareF N τ k 256 p (nx e (p + 1)) ∧ x_aB 3 256 = true ∧ x_ln 256 = 340000 := by
  have o := ops_1 h0 h1
  have xa : x_aB 3 256 = true := rfl
  have xl : x_ln 256 = 340000 := rfl
  refine ⟨?_, xa, xl⟩
  rw [rare_x, xa, xl, gd_tt, gd_in (by decide) o.1.1 o.1.2, h256]
theorem bx_me {α : Type} {o : Option (Except (Nat × mS) α)} {f : α → Option (Except (Nat × mS) α)} (h : ∀ z, f z = some (.ok z)) : bx o f = o := by
  rw [show f = (fun z => some (.ok z)) from funext h]
  cases o with
  | none => rfl
  | some u => cases u <;> rfl
theorem rare_s {N : Nat} {o : Option (Except (Nat × mS) mS)} : bx o (fun z => xx6_step_b793 N z) = o := bx_me (fun z => rfl)
theorem rare_b {N : Nat} {o : Option (Except (Nat × mS) mS)} : bx o (fun z => xx6_rare_b672 N z) = o := bx_me (fun z => rfl)
theorem act_b {N : Nat} {o : Option mS} : bd o (fun z => mm_act_1128 N z) = o := bd_me (fun z => rfl)
theorem more_b {N : Nat} {o : Option mS} : bd o (fun z => mm_actMore_926 N z) = o := bd_me (fun z => rfl)
theorem i32_64 {a : Int32} : Int64.toInt32 (Int32.toInt64 a) = a := Int32.toInt32_toInt64 a
theorem rare_bd {N : Nat} {o : Option mS} : bd o (fun z => xx6_rare_b672 N z) = bd o (fun z => some (.ok z)) := rfl
/-- a box of a call -/
theorem RV_box {w : WD} {σ : mS} {f r tm : Int32} {vm : Int64} (h : RV w σ f (-2 - r) tm vm) (r0 : 0 ≤ r) (r1 : r ≤ 2500) : ∃ a b, (a, b) ∈ wB w ∧ xt σ f r = 8 ∧ xv σ f r = Int32.toInt64 a ∧ tm = 7 ∧ vm = Int32.toInt64 b := by
  rcases h with ⟨h, _⟩ | ⟨h, _⟩ | ⟨_, h1, h2, a, b, h3, h4, h5, _⟩ | ⟨h, _⟩ | ⟨h, _⟩
  · exact absurd h (by lia)
  · exact absurd h (by lia)
  · rw [dc_b r0 (by lia)] at h1 h3
    exact ⟨a, b, h5, h1, h3, h2, h4⟩
  · exact absurd h (by lia)
  · exact absurd h (by lia)
theorem RV_gone {w : WD} {σ : mS} {f r tm : Int32} {vm : Int64} (r0 : 0 ≤ r) (r1 : r ≤ 2500) (h : tm = 0) (h' : xt σ f r = 0) : RV w σ f (-10000 - r) tm vm := .inr (.inr (.inr (.inl ⟨by lia, h, by rw [dc_h r0 (by lia)]; exact h', by lia⟩)))
theorem RV_tab {w : WD} {σ : mS} {f r tm : Int32} {vm : Int64} (h : RV w σ f (-20000 - r) tm vm) (r0 : 0 ≤ r) (r1 : r ≤ 2500) : VV w (xt σ f r) (xv σ f r) tm vm ∧ tm = 4 := by
  rcases h with ⟨h, _⟩ | ⟨h, _⟩ | ⟨_, h1, h2, a, b, h3, h4, h5, h⟩ | ⟨_, _, _, h⟩ | ⟨_, h1, h2⟩
  · exact absurd h (by lia)
  · exact absurd h (by lia)
  · exact absurd h (by lia)
  · exact absurd h (by lia)
  · rw [dc_tb r0 (by lia)] at h1
    exact ⟨h1, h2.elim (fun k => absurd k.1 (by lia)) (fun k => k.2)⟩
theorem RV_num {w : WD} {σ : mS} {f r tm : Int32} {vm : Int64} (h : RV w σ f (-30000 - r) tm vm) (r0 : 0 ≤ r) (r1 : r ≤ 2500) : VV w (xt σ f r) (xv σ f r) tm vm ∧ tm = 2 := by
  rcases h with ⟨h, _⟩ | ⟨h, _⟩ | ⟨_, h1, h2, a, b, h3, h4, h5, h⟩ | ⟨_, _, _, h⟩ | ⟨_, h1, h2⟩
  · exact absurd h (by lia)
  · exact absurd h (by lia)
  · exact absurd h (by lia)
  · exact absurd h (by lia)
  · rw [dc_nu r0 (by lia)] at h1
    exact ⟨h1, h2.elim (fun k => k.2.1) (fun k => absurd k.1 (by lia))⟩
theorem RV_t {w : WD} {σ : mS} {f r tm : Int32} {vm : Int64} (r0 : 0 ≤ r) (r1 : r ≤ 2500) (h : VV w (xt σ f r) (xv σ f r) tm vm) (h4 : tm = 4) : RV w σ f (-20000 - r) tm vm := .inr (.inr (.inr (.inr ⟨by lia, by rw [dc_tb r0 (by lia)]; exact h, .inr ⟨by lia, h4⟩⟩)))
theorem RV_u {w : WD} {σ : mS} {f r tm : Int32} {vm : Int64} (r0 : 0 ≤ r) (r1 : r ≤ 2500) (h : VV w (xt σ f r) (xv σ f r) tm vm) (h2 : tm = 2) : RV w σ f (-30000 - r) tm vm := .inr (.inr (.inr (.inr ⟨by lia, by rw [dc_nu r0 (by lia)]; exact h, .inl ⟨by lia, h2, fun k => absurd k (by lia)⟩⟩)))
theorem RV_nz {w : WD} {σ : mS} {f r tm : Int32} {vm : Int64} (h : RV w σ f (-40000 - r) tm vm) (r0 : 0 ≤ r) (r1 : r ≤ 2500) : VV w (xt σ f r) (xv σ f r) tm vm ∧ tm = 2 ∧ vm ≠ 0 := by
  rcases h with ⟨h, _⟩ | ⟨h, _⟩ | ⟨_, h1, h2, a, b, h3, h4, h5, h⟩ | ⟨_, _, _, h⟩ | ⟨_, h1, h2⟩
  · exact absurd h (by lia)
  · exact absurd h (by lia)
  · exact absurd h (by lia)
  · exact absurd h (by lia)
  · rw [dc_nz r0 (by lia)] at h1
    exact ⟨h1, h2.elim (fun k => ⟨k.2.1, k.2.2 (by lia)⟩) (fun k => absurd k.1 (by lia))⟩
theorem RV_z {w : WD} {σ : mS} {f r tm : Int32} {vm : Int64} (r0 : 0 ≤ r) (r1 : r ≤ 2500) (h : VV w (xt σ f r) (xv σ f r) tm vm) (h2 : tm = 2) (h3 : vm ≠ 0) : RV w σ f (-40000 - r) tm vm := .inr (.inr (.inr (.inr ⟨by lia, by rw [dc_nz r0 (by lia)]; exact h, .inl ⟨by lia, h2, fun _ => h3⟩⟩)))
/-- a register is read -/
theorem rd_r {e : EV} {w : WD} {xf : Int32 → List Int32} {c d : Int32} {rest : PL2} {f : Int32} {fl : List Int32} {ρ : List Int32} {m : Int32} {g p q F n : Int32} {σ μ : mS} (S : ST e w xf c d rest f fl ρ m g p q F n σ μ) {r : Int32} (r0 : 0 ≤ r) (r1 : r < sI (eσ e) 261 g) {N : Nat} : xx6_tag N σ r = some (xt σ f r, σ) ∧ xx6_value N σ r = some (xv σ f r, σ) := by
  have b := MR0_f S.1.1.1
  rw [PT_R S.1] at b
  have I := rg_i2 b.2.2.1.1 b.2.2.1.2.2.1 b.2.2.1.2.1 b.2.2.1.2.2.2 r0 (Int32.lt_of_lt_of_le r1 b.2.1.2.2)
  have e410 : σ.1 410 = sI σ 347 f := S.2.1
  exact ⟨by rw [xx6_tag, e410, gd_in (by decide) I.1 I.2]; rfl, by rw [xx6_value, e410, gd_in (by decide) I.1 I.2]; rfl⟩
/-- GET_BOX, GET_LOCAL of a box -/
theorem r_getb {e : EV} {w : WD} {xf : Int32 → List Int32} {c d : Int32} {rest : PL2} {f : Int32} {fl : List Int32} {ρ : List Int32} {g p q F n : Int32} {σ μ : mS} (Z : ZRok e) {M rk : Nat} (G : GK e M F n rk) (A : PT e w xf c d rest f fl ρ (-1) g p q F n σ μ) (z : eZ e rk g p q ρ (-1)) (ho : opx e p 6) (ha : acm e q 69) {r : Int32} (r0 : 0 ≤ r) (r1 : r ≤ 2500) (hr : nx e (p + 2) = r) {j : Nat} (hj : j < ρ.length) (hb : ρ.getD j 0 = -2 - r) (hv : sI (eμ e) 71 q = Int32.ofNat j) (ok : okr ρ (nx e (p + 1)) 1 (sI (eσ e) 261 g)) (L : lo e rk g (p + 3) (q + 1) (ρ ++ [nx e (p + 1)]) (-1)) : Good e (M + 3000) σ μ := by
  have hx := PT_x A ho (fun s => rfl)
  have S := PT_s A 3
  have o := ops_1 ho.1.1 ho.1.2
  have e3 : mff (actP μ (n - 1) q) (n - 1) 3 = mff μ (n - 1) 3 := mf_I actP_fr rfl
  have hm := act_f A ha
  rw [af_69, hv, ← e3] at hm
  have h256 := fun i => xP_256 S.1 i
  obtain ⟨k1, xa, xl⟩ := rare_k (N := eN e) (k := 6) ho.1.1 ho.1.2 h256
  rw [sf_6, rare_s, k1, rf_6, xa, xl, gd_tt, gd_in (by decide) o.2.1.1 o.2.1.2, h256, hr] at hx
  clear e3 k1
  generalize xP σ f p 3 = τ at hx S h256
  generalize actP μ (n - 1) q = τm at hm S
  have zk' := zk_of Z z
  obtain ⟨h1, h2, h3, h4, h5⟩ := PT_at S.1 zk'.1
  have bl := (h5 j (by omega) 0 (by omega)).1
  have rv := h1 j hj
  rw [hb] at rv
  obtain ⟨a, b, hab, x1, x2, m1, m2⟩ := RV_box rv r0 r1
  obtain ⟨a01, b01, bv⟩ := box_V S.1.1.1.1.1.1 hab
  have rR : r < sI (eσ e) 261 g := by
    have := zk'.2 (ρ.getD j 0) (by rw [List.getD_eq_getElem?_getD, List.getElem?_eq_getElem hj]; exact List.getElem_mem hj)
    rw [hb, dc_b r0 (by lia)] at this
    exact this
  obtain ⟨p1, p2, p3⟩ := push_1 (N := eN e) (N' := eN e) S zk' ok bv
  refine Good_2 A (hx.trans ?_) (hm.trans ?_) (GK_lo G p3.1 L)
  · rw [(rd_r S r0 rR).2, bd_so, rare_bd, xx6_unbox, x2, i32_64, gd_in (by decide) a01.1 a01.2, gd_in (by decide) a01.1 a01.2, bd_bd]
    have p1' : xx6_set (eN e) τ (nx e (p + 1)) (τ.2.2.1 233 a.toNatClampNeg) (τ.2.2.2 234 a.toNatClampNeg) = some (xS τ (sI τ 347 f + nx e (p + 1)) (sI τ 233 a) (sJ τ 234 a)) := p1
    rw [p1', bd_so, bd_so]
  · have m2' : τm.2.2.2 142 (mff τm (n - 1) 3 + Int32.ofNat j).toNatClampNeg = Int32.toInt64 b := m2
    rw [m2', i32_64, gd_in (by decide) bl.1 bl.2, gd_in (by decide) b01.1 b01.2, gd_in (by decide) bl.1 bl.2, gd_in (by decide) b01.1 b01.2, act_b]
    exact p2
