/-! LAYER 2: a run begins, and comes to its end alike -/
def rnX (k : Nat) : Bool := [323, 326, 339, 396, 397, 398, 399, 406].contains k
def rnM (k : Nat) : Bool := [141, 142, 143, 154, 156, 161, 162, 172].contains k || inR 178 187 k || inR 252 257 k
theorem rnX_f {k : Nat} (h : k < 323 ∨ (326 < k ∧ k < 339) ∨ (339 < k ∧ k < 396) ∨ (399 < k ∧ k < 406) ∨ 406 < k ∨ k = 324 ∨ k = 325) : rnX k = false := by
  simp only [rnX, List.contains_cons, List.contains_nil, Bool.or_eq_false_iff, beq_eq_false_iff_ne]
  (repeat' (first | exact trivial | omega | apply And.intro))
theorem rnM_f {k : Nat} (h : k < 141 ∨ (143 < k ∧ k < 154) ∨ k = 155 ∨ (156 < k ∧ k < 161) ∨ (162 < k ∧ k < 172) ∨ (172 < k ∧ k < 178) ∨ (187 < k ∧ k < 252) ∨ 257 < k) : rnM k = false := by
  simp only [rnM, inR, List.contains_cons, List.contains_nil, Bool.or_eq_false_iff, beq_eq_false_iff_ne, Bool.or_eq_false_iff, Bool.and_eq_false_iff, decide_eq_false_iff_not]
  (repeat' (first | exact trivial | omega | apply And.intro))
/-- the main coroutine runs -/
theorem ME_run {S : SR} {K : Int32 → Int32 → Int32 → Prop} {q : Int} {w : WD} {xf : Int32 → List Int32} {σ μ τ τm : mS} (H : QU S K q w xf σ μ) (fr : m_fr rnX σ τ) (frm : m_fr rnM μ τm) (x323 : ∀ x, 0 ≤ x → sI τ 323 x = if x = 0 then 1 else sI σ 323 x) (x326 : ∀ x, 0 ≤ x → sI τ 326 x = if x = 0 then -1 else sI σ 326 x) (e339 : sF τ 339 = 0) (y156 : ∀ x, 0 ≤ x → sI τm 156 x = if x = 120 then 1 else sI μ 156 x) (y162 : sI τm 162 120 = 0) (y161 : sI τm 161 120 = 0) (y16 : ∀ x, 0 ≤ x → x ≠ 120 → sI τm 162 x = sI μ 162 x ∧ sI τm 161 x = sI μ 161 x) (e154 : sF τm 154 = 0) (e172 : sF τm 172 = 120) (e178 : sF τm 178 = 0) (e396 : sF τ 396 = sF τm 180) (e0 : 0 ≤ sF τ 396) : ME S K q w xf 0 120 [] τ τm := by
  obtain ⟨⟨R, hq⟩, Z, HH, X, x0, C, h1, h2, h3, h4, h5⟩ := H
  have W := R.1
  have c60 : ∀ c d, (c, d) ∈ wC w → (1 ≤ c ∧ c ≤ 120) ∧ (0 ≤ d ∧ d < 120) := fun c d h => ⟨⟨(W.2.2.2.2.2 c d h).1, (C.1 c d h).1⟩, (W.2.2.2.2.2 c d h).2⟩
  have f171 : sF τm 171 = sF μ 171 := mf_F frm (rnM_f (by omega))
  have i157 : sI τm 157 120 = sI μ 157 120 := mf_I frm (rnM_f (by omega))
  have ks : kSum w τm = kSum w μ := by
    simp only [kSum]
    congr 1
    apply List.map_congr_left
    intro p _
    rw [mf_I frm (k := 166) (rnM_f (by omega))]
  have n0 : ∀ c : Int32, 1 ≤ c → 0 ≤ c ∧ ¬ c = 0 := fun c h => ⟨by lia, by lia⟩
  have n120 : ∀ d : Int32, d < 120 → ¬ d = 120 := fun d h => by lia
  refine ⟨⟨by rw [fQ_e f171 i157]; exact RH_fr R fr frm (fun k a b => rnX_f (by omega)) (fun k a b _ _ _ _ _ _ => rnM_f (by omega)), hq⟩, ZS_fr Z fr (rnX_f (by omega)), HO_fr HH wle_rfl fr frm (fun k hk => rnX_f (by omega)) (fun k a b => rnM_f (by omega)) (fun a b _ => xL_fr fr (fun k a b => rnX_f (by omega))) (fun k _ => by rw [frm.2.2.1 44 (rnM_f (by omega))]), ?_, ?_, ⟨rfl, rfl, y162, y161⟩, ⟨e339, e172, by rw [x323 0 (by decide), if_pos rfl], by rw [y156 120 (by decide), if_pos rfl]⟩, by simp, ?_, e396, e0, e178⟩
  · obtain ⟨fc, bl, s1, s2, nd, rg, len, ⟨b1, b2, b3, b4⟩, bn, bm⟩ := X
    have p356 : ∀ k, 340 ≤ k → k ≤ 365 → rnX k = false := fun k _ _ => rnX_f (by omega)
    refine ⟨fc, bl, ?_, fun c hc => ?_, nd, rg, len, ⟨?_, ?_, ?_, ?_⟩, bn, fun x => ?_⟩
    · rw [mf_F fr (p356 357 (by omega) (by omega))]
      exact seg_congr s1 (fun x _ => mf_I fr (p356 356 (by omega) (by omega)))
    · have hs := seg_congr (s2 c hc) (fun x _ => mf_I fr (τ := τ) (p356 356 (by omega) (by omega)) (m := x))
      rcases List.mem_cons.mp hc with q0 | q0
      · subst q0
        rw [x0]
        show sI τ 326 0 = -1
        rw [x326 0 (by decide), if_pos rfl]
      · obtain ⟨⟨a, b⟩, hab, e⟩ := List.mem_map.mp q0
        have e' : a = c := e
        subst e'
        have cc := n0 a (c60 a b hab).1.1
        rw [x326 a cc.1, if_neg cc.2]
        exact hs
    · rw [mf_F fr (p356 361 (by omega) (by omega))]
      exact seg_congr b1 (fun x _ => mf_I fr (p356 359 (by omega) (by omega)))
    · rw [mf_F fr (p356 362 (by omega) (by omega))]
      exact seg_congr b2 (fun x _ => mf_I fr (p356 360 (by omega) (by omega)))
    · rw [mf_F fr (p356 363 (by omega) (by omega))]
      exact OB_cg b3 (fun x _ => ⟨mf_I fr (p356 347 (by omega) (by omega)), mf_I fr (p356 349 (by omega) (by omega))⟩)
    · rw [mf_F fr (p356 363 (by omega) (by omega))]; exact b4
    · rw [mf_I fr (p356 349 (by omega) (by omega))]; exact bm x
  · refine ⟨fun c d hcd => ?_, fun d d0 d1 hd => ?_, ?_, ?_, ?_, ?_⟩
    · obtain ⟨a1, a2, a3, a4, a5⟩ := C.1 c d hcd
      have cd := c60 c d hcd
      have cc := n0 c cd.1.1
      have dd := n120 d cd.2.2
      refine ⟨a1, ?_, ?_, ?_, .inr ?_⟩
      · rw [x323 c cc.1, if_neg cc.2, y156 d cd.2.1, if_neg dd]; exact a2
      · rw [mf_J fr (rnX_f (by omega)), mf_I frm (rnM_f (by omega))]; exact a3
      · rw [mf_I frm (rnM_f (by omega))]; exact a4
      · have a6 := a5.resolve_left (by simp)
        refine cKd_cg a6 wle_rfl rfl (fun g _ => xcs_pK fr (fun k hk => rnX_f (by omega))) (cds_fr fr (rnX_f (by omega)) (rnX_f (by omega)) (rnX_f (by omega))) ⟨fun k k0 k1 k2 => ?_, mf_J fr (rnX_f (by omega)), mf_J fr (rnX_f (by omega))⟩ ⟨fun k k0 k1 => ?_, fun k j _ _ _ => ?_, fun i _ _ => ⟨?_, ?_⟩⟩
        · by_cases q : k = 323
          · subst q; rw [x323 c cc.1, if_neg cc.2]
          · exact mf_I fr (rnX_f (by omega))
        · by_cases q : k = 156
          · subst q; rw [y156 d cd.2.1, if_neg dd]
          · by_cases q1 : k = 161
            · subst q1; exact (y16 d cd.2.1 dd).2
            · by_cases q2 : k = 162
              · subst q2; exact (y16 d cd.2.1 dd).1
              · exact mf_I frm (rnM_f (by omega))
        · simp only [kff]; rw [mf_I frm (rnM_f (by omega)), mf_I frm (rnM_f (by omega))]
        · simp only [kpt]; rw [mf_I frm (rnM_f (by omega)), mf_I frm (rnM_f (by omega))]
        · simp only [kpv]; rw [mf_J frm (rnM_f (by omega)), mf_I frm (rnM_f (by omega))]
    · rw [mf_I frm (rnM_f (by omega))]; exact C.2.1 d d0 d1 hd
    · obtain ⟨fcs, g1, g2⟩ := C.2.2.1
      refine ⟨fcs, ?_, g2⟩
      rw [mf_F fr (rnX_f (by omega))]
      exact seg_congr g1 (fun x _ => mf_I fr (rnX_f (by omega)))
    · rw [mf_F fr (rnX_f (by omega)), f171]; exact C.2.2.2.1
    · rw [mf_J fr (rnX_f (by omega)), i157]; exact C.2.2.2.2.1
    · refine KL_sub C.2.2.2.2.2 (fun d hd => ⟨?_, mf_I frm (rnM_f (by omega)), mf_I frm (rnM_f (by omega)), mf_I frm (rnM_f (by omega)), mf_I frm (rnM_f (by omega))⟩) (mf_F frm (rnM_f (by omega))) (mf_F frm (rnM_f (by omega)))
      obtain ⟨e0, e1, e2, e3, e4⟩ := hd
      rw [mf_I frm (rnM_f (by omega))] at e2 e4
      rw [y156 d e0, if_neg (n120 d e1)] at e3
      exact ⟨e0, e1, e2, e3, e4⟩
  · rw [mf_F fr (rnX_f (by omega)), mf_F frm (k := 155) (rnM_f (by omega)), e154, ks]
    exact ⟨h1, h2, h3, h4, by rw [show (0 : Int32).toInt = 0 from rfl, h5]; omega⟩
/-- a run from its beginning -/
theorem run_G {e : EV} (E : EVok e) (Z : ZRok e) (EK : KOK e) (LB : LBst e) (ZS' : ZST e) (hN : 10000000000000000000000000 ≤ eN e) {w : WD} {xf : Int32 → List Int32} {σ μ : mS} {n : Int32} (M0 : ME (eS e) (eK e) (eQ e) w xf 0 120 [] σ μ) (V : SV e w σ μ) (x0 : xf 0 = []) (e154 : sF μ 154 = 0) (A : AR w σ μ 0 n) (v : VV w (e1 e) (e2 e) (sI μ 141 0) (sJ μ 142 0)) : ∃ rx rm, xx6_run_b36 (eN e) (eN e) (e1 e) (e2 e) 0 σ = some rx ∧ bd (mm_call (eN e) μ 0 n (-1) 5) (fun z => mm_endRun_30 (eN e) (eN e) z) = some rm ∧ FIN e rx rm := by
  have b := M0.2.2.2.2.2.1
  obtain ⟨_, _, b162, b161⟩ := b
  have CL0 : CL e w xf 0 120 [] (0, 0, -1, 0, -1, 5) σ μ := by
    refine ⟨M0, V, ?_⟩
    rw [x0, e154, b162, b161]
    exact ⟨rfl, rfl, rfl, rfl⟩
  have HG0 : ∀ F, HG e (eN e - 1000) F 200 := fun F => HG_all E Z EK LB ZS' hN F
  have hM : eN e - 1000 + 1 < eN e := by omega
  have o358 := M0.2.2.2.2.2.2.2.2.1.2.1
  rw [tI_le] at o358
  have z0 : (0 : Int32).toInt = 0 := rfl
  obtain ⟨rx, μ', g1, g2, g3, g4⟩ := BG_all E EK LB hM 200 (sF σ 396) 200 (fun F' _ _ => HG0 F') (GFR E (HG0 (sF σ 396)) hM 200).2 w xf 0 120 [] (0, 0, -1, 0, -1, 5) σ μ 0 n (e1 e) (e2 e) 1100 850 CL0 A rfl v (VV_8 v) rfl (by rw [e154]; decide) (by omega) (by omega) (by omega)
  obtain ⟨rm, r1, r2⟩ := g4 μ' mf_rfl
  refine ⟨rx, rm, ?_, ?_, r2⟩
  · obtain ⟨N, hN'⟩ : ∃ N, eN e = N + 1 := ⟨eN e - 1, by omega⟩
    have hJ : xx6_run_b36 (eN e) (eN e) (e1 e) (e2 e) 0 σ = xx6_run_b36 (eN e) (N + 1) (e1 e) (e2 e) 0 σ := congrArg (fun J => xx6_run_b36 (eN e) J (e1 e) (e2 e) 0 σ) hN'
    have h406 : σ.1 406 = 0 := V.2.2.2.2.1
    rw [hJ, xx6_run_b36, if_pos h406, if_pos rfl]
    exact g2 (eN e) N (by omega) (by omega)
  · have g1' : mm_call (eN e) μ 0 n (-1) 5 = some μ' := g1
    rw [g1', bd_so]
    exact r1 (eN e) (by omega)
