/-! LAYER 2: calls come and go in the coroutine that runs; a coroutine ends -/
def ppX (k : Nat) : Bool := k == 326 || inR 343 365 k || inR 397 411 k || inR 520 522 k || inR 538 541 k
def ppM (k : Nat) : Bool := [16, 17, 42, 43].contains k || inR 141 155 k || inR 188 190 k || inR 221 231 k
theorem ppX_f {k : Nat} (h : k ≠ 326 ∧ (k < 343 ∨ 365 < k) ∧ (k < 397 ∨ 411 < k) ∧ (k < 520 ∨ 522 < k) ∧ (k < 538 ∨ 541 < k)) : ppX k = false := by
  simp only [ppX, inR, Bool.or_eq_false_iff, Bool.and_eq_false_iff, decide_eq_false_iff_not, beq_eq_false_iff_ne]
  omega
theorem ppM_f {k : Nat} (h : (k < 16 ∨ (17 < k ∧ k < 42) ∨ (43 < k ∧ k < 141) ∨ (155 < k ∧ k < 188) ∨ (190 < k ∧ k < 221) ∨ 231 < k)) : ppM k = false := by
  simp only [ppM, inR, List.contains_cons, List.contains_nil, Bool.or_eq_false_iff, beq_eq_false_iff_ne, Bool.and_eq_false_iff, decide_eq_false_iff_not]
  (repeat' (first | exact trivial | omega | apply And.intro))
theorem BC_pp {S : SR} {w : WD} {xf xf' : Int32 → List Int32} {σ μ τ τm : mS} {kk B : Int32} (fr : m_fr ppX σ τ) (frm : m_fr ppM μ τm) : ∀ {p : Int32 × Int32} {rest : PL2}, BC S w xf σ μ p rest → (∀ e, e ∈ rest → xf' e.1 = xf e.1 ∧ ∀ g, g ∈ xf e.1 → xcs σ τ g) → (∀ k j, 0 ≤ k → k < sI μ 162 p.2 → j < 10 → mff τm k j = mff μ k j) → (∀ i, 0 ≤ i → i < sI μ 161 p.2 → sI τm 141 i = sI μ 141 i ∧ sJ τm 142 i = sJ μ 142 i) → BC S w xf' τ τm p rest
  | (c, d), [], h, _, _, _ => by
    obtain ⟨h1, h2, h3, h4⟩ := h
    refine ⟨h1, h2, ?_, ?_⟩
    · rw [mf_I frm (ppM_f (by omega))]; exact h3
    · rw [mf_I frm (ppM_f (by omega))]; exact h4
  | (c, d), e :: rest, h, hx, hm, hpl => by
    obtain ⟨h1, h2, h3, h4, h5, h6, h7, h8, h9, h10⟩ := h
    have kb' := BC_kb h10
    simp only at hm hpl
    have i : ∀ k, 156 ≤ k → k ≤ 178 → ∀ m, sI τm k m = sI μ k m := fun k a b m => mf_I frm (ppM_f (by omega))
    have xx : ∀ k, 323 ≤ k → k ≤ 339 → k ≠ 326 → ∀ m, sI τ k m = sI σ k m := fun k a b c' m => mf_I fr (ppX_f (by omega))
    have m5 := hm (sI μ 162 d - 1) 5 (by lia) (by lia) (by omega)
    have m6 := hm (sI μ 162 d - 1) 6 (by lia) (by lia) (by omega)
    have m7 := hm (sI μ 162 d - 1) 7 (by lia) (by lia) (by omega)
    have m0 : sI τm 144 (sI μ 162 d - 1) = sI μ 144 (sI μ 162 d - 1) := hm (sI μ 162 d - 1) 0 (by lia) (by lia) (by omega)
    have kb2 : kb (sI μ 162 e.2) (sI μ 161 e.2) (sI μ 162 d - 1) := ⟨kb'.1, by lia, kb'.2.2.1, kb'.2.2.2.1⟩
    have fb := FL_B h9 kb2
    have fb1 : sI μ 161 e.2 ≤ mff μ (sI μ 162 d - 1) 5 := fb.1
    have hx0 := hx e List.mem_cons_self
    refine ⟨h1, ?_, ?_, ?_, ?_, ?_, ?_, ?_, ?_, BC_pp (kk := kk) (B := B) fr frm h10 (fun p hp => hx p (List.mem_cons_of_mem _ hp)) (fun k j k0 k1 hj => hm k j k0 (by lia) hj) (fun m m0 m1 => hpl m m0 (by lia))⟩
    · rw [xx 324 (by omega) (by omega) (by omega), i 159 (by omega) (by omega), i 166 (by omega) (by omega), i 164 (by omega) (by omega)]; exact h2
    · rw [i 162 (by omega) (by omega)]; exact h3
    · rw [xx 328 (by omega) (by omega) (by omega), i 162 (by omega) (by omega), m0]; exact h4
    · rw [i 161 (by omega) (by omega), i 162 (by omega) (by omega), m5]; exact h5
    · rw [xx 327 (by omega) (by omega) (by omega), i 160 (by omega) (by omega)]; exact h6
    · rw [xx 323 (by omega) (by omega) (by omega), i 156 (by omega) (by omega)]; exact h7
    · rw [i 161 (by omega) (by omega), i 162 (by omega) (by omega)]; exact h8
    · rw [i 162 (by omega) (by omega), i 162 (by omega) (by omega), i 161 (by omega) (by omega), xx 329 (by omega) (by omega) (by omega), xx 330 (by omega) (by omega) (by omega), xx 331 (by omega) (by omega) (by omega), m5, m6, m7, hx0.1]
      refine FL_cg h9 kb2 wle_rfl hx0.2 (cds_fr fr (ppX_f (by omega)) (ppX_f (by omega)) (ppX_f (by omega))) (fun k j k0 k1 hj => hm k j (by lia) (by lia) hj) (fun m m0 m1 => ?_)
      have m1' : m < mff μ (sI μ 162 d - 1) 5 := m1
      exact hpl m (by lia) (by lia)
theorem ME_pp {S : SR} {K : Int32 → Int32 → Int32 → Prop} {q : Int} {w : WD} {xf xf' : Int32 → List Int32} {c d : Int32} {rest : PL2} {σ μ τ τm : mS} (H : ME S K q w xf c d rest σ μ) (fr : m_fr ppX σ τ) (frm : m_fr ppM μ τm) (X' : XF w xf' τ) (hxf : ∀ a, a ≠ c → xf' a = xf a) (hx : ∀ a, a ∈ cX w → a ≠ c → ∀ g, g ∈ xf a → xcs σ τ g) (hm : ∀ k j, 0 ≤ k → k < sI μ 162 d → j < 10 → mff τm k j = mff μ k j) (hpl : ∀ i, 0 ≤ i → i < sI μ 161 d → sI τm 141 i = sI μ 141 i ∧ sJ τm 142 i = sJ μ 142 i) (ho : sF τ 358 = sF τm 155 ∧ 0 ≤ sF τ 358 ∧ sF τ 358 ≤ 200 ∧ (sF τ 358).toInt = (fAll w xf').length + rest.length ∧ (sF τm 155).toInt = (sF τm 154).toInt + kSum w μ) : ME S K q w xf' c d rest τ τm := by
  obtain ⟨⟨RR, h1⟩, Z, HH, X, C, Bc, h7, h8, h9, h10, h10', h11⟩ := H
  have W := RR.1
  have mem := BC_mem Bc
  have R' : RH K (q + fQ μ) w τ τm := RH_fr RR fr frm (fun k a b => ppX_f (by omega)) (fun k a b q11 q16 q17 q42 q43 q51 => ppM_f (by omega))
  have i : ∀ k, 156 ≤ k → k ≤ 187 → ∀ m, sI τm k m = sI μ k m := fun k a b m => mf_I frm (ppM_f (by omega))
  have fm : ∀ k, 156 ≤ k → k ≤ 187 → sF τm k = sF μ k := fun k a b => mf_F frm (ppM_f (by omega))
  have xi : ∀ k, 323 ≤ k → k ≤ 339 → k ≠ 326 → ∀ m, sI τ k m = sI σ k m := fun k a b c' m => mf_I fr (ppX_f (by omega))
  have ks : kSum w τm = kSum w μ := by
    simp only [kSum]
    congr 1
    apply List.map_congr_left
    intro p _
    rw [i 166 (by omega) (by omega)]
  have cdx : cds w σ τ := cds_fr fr (ppX_f (by omega)) (ppX_f (by omega)) (ppX_f (by omega))
  have nch : ∀ p, p ∈ rest → p.1 ≠ c := fun p hp r => by
    have := (List.nodup_cons.mp (by simpa using h8 : (c :: rest.map Prod.fst).Nodup)).1
    exact this (by rw [← r]; exact List.mem_map.mpr ⟨p, hp, rfl⟩)
  have chc : ∀ p, p ∈ (c, d) :: rest → p.1 ∈ cX w := fun p hp => by
    rcases mem p hp with z | z
    · rw [z]; exact List.mem_cons_self
    · exact List.mem_cons_of_mem _ (List.mem_map.mpr ⟨p, z.1, rfl⟩)
  refine ⟨⟨by rw [fQ_e (fm 171 (by omega) (by omega)) (mf_I frm (ppM_f (by omega)))]; exact R', h1⟩, ZS_fr Z fr (ppX_f (by omega)), HO_fr HH wle_rfl fr frm (fun k hk => ppX_f (by omega)) (fun k a b => ppM_f (by omega)) (fun a b _ => xL_fr fr (fun k a b => ppX_f (by omega))) (fun k _ => by rw [frm.2.2.1 44 (ppM_f (by omega))]), X', ⟨fun a b hab => ?_, fun e e0 e1 he => ?_, ?_, ?_, ?_, ?_⟩, BC_pp (kk := 0) (B := 0) fr frm Bc (fun p hp => ⟨hxf _ (nch p hp), hx _ (chc p (List.mem_cons_of_mem _ hp)) (nch p hp)⟩) hm hpl, ?_, h8, ?_, ?_, ?_, ?_⟩
  · obtain ⟨a1, a2, a3, a4, a5⟩ := C.1 a b hab
    refine ⟨a1, ?_, ?_, ?_, a5.imp id (fun a6 => ?_)⟩
    · rw [xi 323 (by omega) (by omega) (by omega), i 156 (by omega) (by omega)]; exact a2
    · rw [mf_J fr (ppX_f (by omega)), i 157 (by omega) (by omega)]; exact a3
    · rw [i 170 (by omega) (by omega)]; exact a4
    · by_cases z : a = c
      · subst z
        rcases mem (a, d) List.mem_cons_self with r | r
        · have := (Prod.mk.inj r).1
          have := W.2.2.2.2.2 a b hab
          lia
        · have s1 : sI σ 323 a = 1 := h7.2.2.1
          rcases a6 with v | v | v
          · exact absurd (v.1.symm.trans s1) (by decide)
          · exact absurd (v.1.symm.trans s1) (by decide)
          · exact absurd (v.1.symm.trans s1) (by decide)
      · have hca : a ∈ cX w := List.mem_cons_of_mem _ (List.mem_map.mpr ⟨(a, b), hab, rfl⟩)
        refine cKd_cg a6 wle_rfl (hxf a z) (hx a hca z) cdx ⟨fun k k0 k1 k2 => xi k k0 (by omega) k2 a, mf_J fr (ppX_f (by omega)), mf_J fr (ppX_f (by omega))⟩ ⟨fun k k0 k1 => i k (by omega) (by omega) b, fun k j _ _ _ => ?_, fun m _ _ => ⟨?_, ?_⟩⟩
        · simp only [kff]; rw [i 176 (by omega) (by omega), i 165 (by omega) (by omega)]
        · simp only [kpt]; rw [i 173 (by omega) (by omega), i 163 (by omega) (by omega)]
        · simp only [kpv]; rw [mf_J frm (ppM_f (by omega)), i 163 (by omega) (by omega)]
  · rw [i 170 (by omega) (by omega)]; exact C.2.1 e e0 e1 he
  · obtain ⟨fcs, g⟩ := C.2.2.1
    refine ⟨fcs, ?_⟩
    rw [mf_F fr (ppX_f (by omega))]
    exact ⟨seg_congr g.1 (fun x _ => mf_I fr (ppX_f (by omega))), g.2⟩
  · rw [mf_F fr (ppX_f (by omega)), fm 171 (by omega) (by omega)]; exact C.2.2.2.1
  · rw [mf_J fr (ppX_f (by omega)), i 157 (by omega) (by omega)]; exact C.2.2.2.2.1
  · refine KL_sub C.2.2.2.2.2 (fun e he => ⟨?_, i _ (by omega) (by omega) _, i _ (by omega) (by omega) _, i _ (by omega) (by omega) _, i _ (by omega) (by omega) _⟩) (fm _ (by omega) (by omega)) (fm _ (by omega) (by omega))
    obtain ⟨e0, e1, e2, e3, e4⟩ := he
    rw [i 170 (by omega) (by omega)] at e2
    rw [i 156 (by omega) (by omega)] at e3
    rw [i 159 (by omega) (by omega)] at e4
    exact ⟨e0, e1, e2, e3, e4⟩
  · rw [mf_F fr (ppX_f (by omega)), fm 172 (by omega) (by omega), xi 323 (by omega) (by omega) (by omega), i 156 (by omega) (by omega)]; exact h7
  · rw [ks]; exact ho
  · rw [mf_F fr (ppX_f (by omega)), fm 180 (by omega) (by omega)]; exact h10
  · rw [mf_F fr (ppX_f (by omega))]; exact h10'
  · rw [fm 178 (by omega) (by omega)]; exact h11
theorem SV_pp {e : EV} {w : WD} {σ μ τ τm : mS} (V : SV e w σ μ) (fr : m_fr ppX σ τ) (frm : m_fr ppM μ τm) (h : sF τ 406 = 0) : SV e w τ τm := by
  obtain ⟨h1, h2, h3, ⟨o1, o2, o3, o4⟩, h5, h6, h7⟩ := V
  have f524 : sF τ 524 = sF σ 524 := mf_F fr (ppX_f (by omega))
  have f220 : sF τm 220 = sF μ 220 := mf_F frm (ppM_f (by omega))
  refine ⟨mf_tr h1 (mf_mono fr (fun k hk => ?_)), mf_tr h2 (mf_mono frm (fun k hk => ?_)), h3, ⟨by rw [f524, f220]; exact o1, by rw [f524]; exact o2, by rw [f524]; exact o3, fun k k0 k1 => ?_⟩, h, by rw [mf_F frm (ppM_f (by omega))]; exact h6, by rw [mf_F frm (ppM_f (by omega))]; exact h7⟩
  · have := xR_f hk
    exact ppX_f (by omega)
  · simp only [mR, inR, Bool.or_eq_false_iff, Bool.and_eq_false_iff, decide_eq_false_iff_not] at hk
    exact ppM_f (by omega)
  · rw [f524] at k1
    rw [mf_I fr (ppX_f (by omega)), mf_I frm (ppM_f (by omega))]
    exact o4 k k0 k1
/-- the top call of the coroutine that runs is over, on both sides -/
theorem pop_2 {e : EV} {N : Nat} {w : WD} {xf : Int32 → List Int32} {c d f : Int32} {fl : List Int32} {rest : PL2} {σ μ : mS} (H : ME (eS e) (eK e) (eQ e) w xf c d rest σ μ) (V : SV e w σ μ) (hf : xf c = f :: fl) (hk : sI μ 162 d < sF μ 154) : ∃ τ, xx5_pop N σ c = some τ ∧ ME (eS e) (eK e) (eQ e) w (fU xf c fl) c d rest τ (md_pi (md_pi μ 154 (sF μ 154 - 1)) 155 (sF μ 155 - 1)) ∧ SV e w τ (md_pi (md_pi μ 154 (sF μ 154 - 1)) 155 (sF μ 155 - 1)) ∧ m_fr pK σ τ ∧ (∀ g, xcs σ τ g) := by
  have cc := ME_c H
  obtain ⟨ncx, pcx⟩ := cX_nd H.2.2.2.2.1
  have kb' := BC_kb H.2.2.2.2.2.1
  simp only at kb'
  have cl := ME_calls H
  obtain ⟨o1, o2, o3, o4, o5⟩ := H.2.2.2.2.2.2.2.2.1
  obtain ⟨τ, a1, a2, a3, a4, a5⟩ := pop_x (N := N) H.2.2.2.1 ncx cc.1 (fun e he => (pcx e he).1) cc.2.2.1 hf
  have frx : m_fr ppX σ τ := mf_mono a3 (fun k hk => by
    simp only [ppX, inR, Bool.or_eq_false_iff, Bool.and_eq_false_iff, decide_eq_false_iff_not, beq_eq_false_iff_ne] at hk
    simp only [pK, List.contains_cons, List.contains_nil, Bool.or_eq_false_iff, beq_eq_false_iff_ne]
    (repeat' (first | exact trivial | omega | apply And.intro)))
  have xc : ∀ g, xcs σ τ g := fun g => xcs_pK a3 (fun k hk => by
    simp only [pK, List.contains_cons, List.contains_nil, Bool.or_eq_false_iff, beq_eq_false_iff_ne]
    (repeat' (first | exact trivial | omega | apply And.intro)))
  have frm : m_fr ppM μ (md_pi (md_pi μ 154 (sF μ 154 - 1)) 155 (sF μ 155 - 1)) := mf_pi (mf_pi mf_rfl rfl) rfl
  have f4 : sF (md_pi (md_pi μ 154 (sF μ 154 - 1)) 155 (sF μ 155 - 1)) 154 = sF μ 154 - 1 := by simp only [sF_pi, sF_pl, sF_ai, sF_al, sG_pi, sG_pl, sG_ai, sG_al, sI_pi, sI_pl, sI_al, sI_ai1, sI_ai2, sJ_pi, sJ_pl, sJ_ai, sJ_al1, sJ_al2, Nat.reduceEqDiff, if_true, if_false, ne_eq, not_false_eq_true, ite_true, ite_false]
  have f5 : sF (md_pi (md_pi μ 154 (sF μ 154 - 1)) 155 (sF μ 155 - 1)) 155 = sF μ 155 - 1 := by simp only [sF_pi, sF_pl, sF_ai, sF_al, sG_pi, sG_pl, sG_ai, sG_al, sI_pi, sI_pl, sI_al, sI_ai1, sI_ai2, sJ_pi, sJ_pl, sJ_ai, sJ_al1, sJ_al2, Nat.reduceEqDiff, if_true, if_false, ne_eq, not_false_eq_true, ite_true, ite_false]
  have pl := (fAll_pop ncx cc.1 hf).length_eq
  simp only [List.length_cons] at pl
  have d1 := tI_dec (k := 0) (n := sF σ 358) (by
    rw [tI_lt]
    show (0 : Int) < _
    omega)
  have d2 := tI_dec (k := 0) (n := sF μ 154) (by lia)
  have d3 := tI_dec (k := 0) (n := sF μ 155) (by rw [← o1]; rw [tI_lt]; show (0 : Int) < _; omega)
  refine ⟨τ, a1, ME_pp H frx frm a2 (fun a ha => fU_o ha) (fun a _ _ g _ => xc g) (fun k j _ _ _ => by simp only [mff, sF_pi, sF_pl, sF_ai, sF_al, sG_pi, sG_pl, sG_ai, sG_al, sI_pi, sI_pl, sI_al, sI_ai1, sI_ai2, sJ_pi, sJ_pl, sJ_ai, sJ_al1, sJ_al2, Nat.reduceEqDiff, if_true, if_false, ne_eq, not_false_eq_true, ite_true, ite_false]) (fun i _ _ => ⟨by simp only [sF_pi, sF_pl, sF_ai, sF_al, sG_pi, sG_pl, sG_ai, sG_al, sI_pi, sI_pl, sI_al, sI_ai1, sI_ai2, sJ_pi, sJ_pl, sJ_ai, sJ_al1, sJ_al2, Nat.reduceEqDiff, if_true, if_false, ne_eq, not_false_eq_true, ite_true, ite_false], by simp only [sF_pi, sF_pl, sF_ai, sF_al, sG_pi, sG_pl, sG_ai, sG_al, sI_pi, sI_pl, sI_al, sI_ai1, sI_ai2, sJ_pi, sJ_pl, sJ_ai, sJ_al1, sJ_al2, Nat.reduceEqDiff, if_true, if_false, ne_eq, not_false_eq_true, ite_true, ite_false]⟩) ⟨?_, ?_, ?_, ?_, ?_⟩, SV_pp V frx frm (by rw [mf_F a3 rfl]; exact V.2.2.2.2.1), a3, xc⟩
  · rw [a4, f5, o1]
  · rw [a4, tI_le, d1]
    show (0 : Int) ≤ _
    omega
  · rw [a4]
    rw [tI_le] at o3 ⊢
    omega
  · rw [a4, d1]; omega
  · rw [f5, f4, d3, d2]; omega
