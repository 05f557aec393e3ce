/-! LAYER 2: the functions of the house, all of them -/
theorem LC_CL {L : LQ} {w : WD} {g : Int32} {σ μ : mS} (H : LC L w g σ μ) : sF μ 178 = 0 := H.1.1.1.2.2.2.2.2.2.2.2.2.2.2
theorem OE_OEL {α : Type} {L : LQ} {w : WD} {σ μ : mS} {ox : Option (Except (Nat × mS) α)} {om : Option mS} (hF : lF L = sF σ 396) (hC : lC L = sF μ 154) (H : OEL L w ox om) : OE (lE L) w (lX L) (lc L) (ld L) (lR L) (lT L) σ μ (fun z => z) ox om := by
  rcases H with ⟨w', τ, τm, ty, v, dd, a1, a2, a3, a4, a5, a6, a7⟩ | ⟨w', τ, τm, a, why, a0, a1, a2, a3⟩
  · refine .inl ⟨w', τ, τm, ty, v, dd, a1, fun μ' hm => ?_, a3, a4, a5.1, a6, a7, a5.2.1.trans hF, a5.2.2.trans hC⟩
    obtain ⟨μ2, b1, b2, _⟩ := a2 μ' hm
    exact ⟨μ2, b1, b2⟩
  · refine .inr ⟨w', τ, τm, a, why, a0, a1, fun μ' hm => ?_, a3⟩
    obtain ⟨μ2, b1, b2, _⟩ := a2 μ' hm
    exact ⟨μ2, b1, b2⟩
theorem own66_1 {N : Nat} {p a b : Int32} {z : mS} (h : ¬ sF z 227 = 0) : mm_own_66 N p a b z = some z := by rw [mm_own_66, sF_fold, if_neg h]; rfl
theorem own66_2 {N : Nat} {p a b : Int32} {z : mS} (h : ¬ sF z 178 = 0) : mm_own_66 N p a b z = some z := by
  rw [mm_own_66, sF_fold, sF_fold, if_neg h, mm_own_89, ite_self]
theorem LB_of {L : LQ} {w : WD} {σ μ : mS} {T : ty_xx6_begin} (hF : lF L = sF σ 396) (hC : lC L = sF μ 154) {p a b : Int32} {ox : Option (Except (Nat × mS) mS)} {om : Option mS} (O : LO L w ox om) : (∃ w' τ τm gn, bx ox (fun z => xx8_call_b130 (lNn L) T z) = some (.ok (1, τ)) ∧ bd om (fun z => mm_own_66 (lNn L) p a b z) = mm_finish (lNn L) τm p a b ∧ CL (lE L) w' (lX L) (lc L) (ld L) (lR L) (lT L) τ τm ∧ GV w' τ τm gn ∧ gn ≤ 100 ∧ sF τ 396 = sF σ 396) ∨ OE (lE L) w (lX L) (lc L) (ld L) (lR L) (lT L) σ μ (fun z => z) (bx ox (fun z => xx8_call_b130 (lNn L) T z)) (bd om (fun z => mm_own_66 (lNn L) p a b z)) := by
  rcases O with ⟨w', τ, τm, g, o1, o2, o3, H⟩ | O
  · refine .inl ⟨w', τ, τm, g, ?_, ?_, H.1.1, H.2.2.2.1, H.2.2.2.2, H.1.2.1.trans hF⟩
    · rw [o1, bx_so, xx8_call_b130, gd_z1]
    · rw [o2, bd_so, mm_own_66, sF_fold, if_pos (L_227 H), sF_fold, if_pos (LC_CL H)]
      exact bd_id
  · exact .inr (OE_OEL hF hC (OEL_bd (OEL_bx O) (fun z h => own66_1 h) (fun z h => ⟨z, own66_2 h, mf_rfl⟩)))
theorem LB_co {N : Nat} {T : ty_xx6_begin} {oy : Option (Except (Nat × mS) (Int32 × mS))} (h : ∀ z, oy = some (.ok z) → z.1 = 1) : bx oy (fun z10 => gd (zB z10.1) (some (Except.ok (z10.1, z10.2)))) = bx (bx oy (fun z => some (Except.ok z.2))) (fun z => xx8_call_b130 N T z) := by
  cases oy with
  | none => rfl
  | some u =>
    cases u with
    | error e => rfl
    | ok z =>
      have e := h z rfl
      rw [bx_so, bx_so, bx_so, xx8_call_b130, e]
def mO (p n : Int32) (μ : mS) : mS := md_pi (md_pi (md_pi (md_pi μ 221 p) 222 n) 227 0) 190 0

theorem lb_0 {L : LQ} (E : EVok (lE L)) {w : WD} {σ μ : mS} (H : LC L w 0 σ μ) (hl : lB L = 0) : LO L w (xx8_plain (lNn L) σ 0) (mm_base (lNn L) μ 0) := by
  exact lib_print E H
theorem lb_1 {L : LQ} (E : EVok (lE L)) {w : WD} {σ μ : mS} (H : LC L w 0 σ μ) (hl : lB L = 1) : LO L w (xx8_plain (lNn L) σ 1) (mm_base (lNn L) μ 1) := by
  exact lib_type E H hl
theorem lb_2 {L : LQ} (E : EVok (lE L)) {w : WD} {σ μ : mS} (H : LC L w 0 σ μ) (hl : lB L = 2) : LO L w (xx8_plain (lNn L) σ 2) (mm_base (lNn L) μ 2) := by
  exact lib_tostring E H hl
theorem lb_3 {L : LQ} (E : EVok (lE L)) {w : WD} {σ μ : mS} (H : LC L w 0 σ μ) (hl : lB L = 3) : LO L w (xx8_plain (lNn L) σ 3) (mm_base (lNn L) μ 3) := by
  exact lib_tonumber E H hl
theorem ex_4 {N : Nat} {z : mS} : xx8_plain N z 4 = xx8_assertTrue N z := show bx (xx8_assertTrue N z) (fun z7 => xx8_plain_b465 N z7) = _ from bx_ok
theorem lb_4 {L : LQ} (E : EVok (lE L)) {w : WD} {σ μ : mS} (H : LC L w 0 σ μ) (hl : lB L = 4) : LO L w (xx8_plain (lNn L) σ 4) (mm_base (lNn L) μ 4) := by
  rw [ex_4]
  exact lib_assert E H hl
theorem lb_5 {L : LQ} (E : EVok (lE L)) {w : WD} {σ μ : mS} (H : LC L w 0 σ μ) (hl : lB L = 5) : LO L w (xx8_plain (lNn L) σ 5) (mm_base (lNn L) μ 5) := by
  exact lib_error E H hl
theorem ex_7 {N : Nat} {z : mS} : xx8_plain N z 7 = xx8_select N z := show bx (xx8_select N z) (fun z7 => xx8_plain_b465 N z7) = _ from bx_ok
theorem em_7 {N : Nat} {z : mS} : mm_base N z 7 = mm_select N z 7 := show bd (mm_select N z 7) (fun z7 => mm_base_465 N z7) = _ from bd_id
theorem lb_7 {L : LQ} (E : EVok (lE L)) {w : WD} {σ μ : mS} (H : LC L w 0 σ μ) (hl : lB L = 7) : LO L w (xx8_plain (lNn L) σ 7) (mm_base (lNn L) μ 7) := by
  rw [ex_7, em_7]
  exact lib_select E H hl
theorem em_8 {N : Nat} {z : mS} : mm_base N z 8 = mm_raw N z 8 := show bd (mm_raw N z 8) (fun z7 => mm_base_465 N z7) = _ from bd_id
theorem lb_8 {L : LQ} (E : EVok (lE L)) {w : WD} {σ μ : mS} (H : LC L w 0 σ μ) (hl : lB L = 8) : LO L w (xx8_plain (lNn L) σ 8) (mm_base (lNn L) μ 8) := by
  rw [em_8]
  exact lib_rawget E H hl
theorem ex_9 {N : Nat} {z : mS} : xx8_plain N z 9 = xx8_rawSet N z := show bx (xx8_rawSet N z) (fun z7 => xx8_plain_b465 N z7) = _ from bx_ok
theorem em_9 {N : Nat} {z : mS} : mm_base N z 9 = mm_raw N z 9 := show bd (mm_raw N z 9) (fun z7 => mm_base_465 N z7) = _ from bd_id
theorem lb_9 {L : LQ} (E : EVok (lE L)) {w : WD} {σ μ : mS} (H : LC L w 0 σ μ) (hl : lB L = 9) : LO L w (xx8_plain (lNn L) σ 9) (mm_base (lNn L) μ 9) := by
  rw [ex_9, em_9]
  exact lib_rawset E H hl
theorem em_10 {N : Nat} {z : mS} : mm_base N z 10 = mm_raw N z 10 := show bd (mm_raw N z 10) (fun z7 => mm_base_465 N z7) = _ from bd_id
theorem lb_10 {L : LQ} (E : EVok (lE L)) {w : WD} {σ μ : mS} (H : LC L w 0 σ μ) (hl : lB L = 10) : LO L w (xx8_plain (lNn L) σ 10) (mm_base (lNn L) μ 10) := by
  rw [em_10]
  exact lib_rawequal E H hl
theorem em_11 {N : Nat} {z : mS} : mm_base N z 11 = mm_raw N z 11 := show bd (mm_raw N z 11) (fun z7 => mm_base_465 N z7) = _ from bd_id
theorem lb_11 {L : LQ} (E : EVok (lE L)) {w : WD} {σ μ : mS} (H : LC L w 0 σ μ) (hl : lB L = 11) : LO L w (xx8_plain (lNn L) σ 11) (mm_base (lNn L) μ 11) := by
  rw [em_11]
  exact lib_rawlen E H hl
theorem em_12 {N : Nat} {z : mS} : mm_base N z 12 = mm_raw N z 12 := show bd (mm_raw N z 12) (fun z7 => mm_base_465 N z7) = _ from bd_id
theorem lb_12 {L : LQ} (E : EVok (lE L)) {w : WD} {σ μ : mS} (H : LC L w 0 σ μ) (hl : lB L = 12) : LO L w (xx8_plain (lNn L) σ 12) (mm_base (lNn L) μ 12) := by
  rw [em_12]
  exact lib_next E H hl
theorem em_13 {N : Nat} {z : mS} : mm_base N z 13 = mm_raw N z 13 := show bd (mm_raw N z 13) (fun z7 => mm_base_465 N z7) = _ from bd_id
theorem lb_13 {L : LQ} (E : EVok (lE L)) {w : WD} {σ μ : mS} (H : LC L w 0 σ μ) (hl : lB L = 13) : LO L w (xx8_plain (lNn L) σ 13) (mm_base (lNn L) μ 13) := by
  rw [em_13]
  exact lib_pairs E H hl
theorem em_14 {N : Nat} {z : mS} : mm_base N z 14 = mm_raw N z 14 := show bd (mm_raw N z 14) (fun z7 => mm_base_465 N z7) = _ from bd_id
theorem lb_14 {L : LQ} (E : EVok (lE L)) {w : WD} {σ μ : mS} (H : LC L w 0 σ μ) (hl : lB L = 14) : LO L w (xx8_plain (lNn L) σ 14) (mm_base (lNn L) μ 14) := by
  rw [em_14]
  exact lib_ipairs E H hl
theorem ex_15 {N : Nat} {z : mS} : xx8_plain N z 15 = xx8_setMeta N z := show bx (xx8_setMeta N z) (fun z7 => xx8_plain_b465 N z7) = _ from bx_ok
theorem em_15 {N : Nat} {z : mS} : mm_base N z 15 = mm_setBehind N z 15 := show bd (mm_setBehind N z 15) (fun z7 => mm_base_465 N z7) = _ from bd_id
theorem lb_15 {L : LQ} (E : EVok (lE L)) {w : WD} {σ μ : mS} (H : LC L w 0 σ μ) (hl : lB L = 15) : LO L w (xx8_plain (lNn L) σ 15) (mm_base (lNn L) μ 15) := by
  rw [ex_15, em_15]
  exact lib_setmeta E H hl
theorem ex_16 {N : Nat} {z : mS} : xx8_plain N z 16 = xx8_getMeta N z := show bx (xx8_getMeta N z) (fun z7 => xx8_plain_b465 N z7) = _ from bx_ok
theorem lb_16 {L : LQ} (E : EVok (lE L)) {w : WD} {σ μ : mS} (H : LC L w 0 σ μ) (hl : lB L = 16) : LO L w (xx8_plain (lNn L) σ 16) (mm_base (lNn L) μ 16) := by
  rw [ex_16]
  exact lib_getmeta E H hl
theorem lb_17 {L : LQ} (E : EVok (lE L)) {w : WD} {σ μ : mS} (H : LC L w 0 σ μ) (hl : lB L = 17) : LO L w (xx8_texts (lNn L) σ 17) (mm_ofStrings (lNn L) μ 17) := by
  exact lib_len E H hl
theorem lb_18 {L : LQ} (E : EVok (lE L)) {w : WD} {σ μ : mS} (H : LC L w 0 σ μ) (hl : lB L = 18) : LO L w (xx8_texts (lNn L) σ 18) (mm_ofStrings (lNn L) μ 18) := by
  exact lib_sub E H hl
theorem lb_19 {L : LQ} (E : EVok (lE L)) {w : WD} {σ μ : mS} (H : LC L w 0 σ μ) (hl : lB L = 19) : LO L w (xx8_texts (lNn L) σ 19) (mm_ofStrings (lNn L) μ 19) := by
  exact lib_byte E H hl
theorem lb_20 {L : LQ} (E : EVok (lE L)) {w : WD} {σ μ : mS} (H : LC L w 0 σ μ) (hl : lB L = 20) : LO L w (xx8_texts (lNn L) σ 20) (mm_ofStrings (lNn L) μ 20) := by
  exact lib_char E H hl
theorem lb_21 {L : LQ} (E : EVok (lE L)) {w : WD} {σ μ : mS} (H : LC L w 0 σ μ) (hl : lB L = 21) : LO L w (xx8_texts (lNn L) σ 21) (mm_ofStrings (lNn L) μ 21) := by
  exact lib_rep E H hl
theorem lb_22 {L : LQ} (E : EVok (lE L)) {w : WD} {σ μ : mS} (H : LC L w 0 σ μ) (hl : lB L = 22) : LO L w (xx8_texts (lNn L) σ 22) (mm_ofStrings (lNn L) μ 22) := by
  exact lib_reverse E H hl
theorem lb_23 {L : LQ} (E : EVok (lE L)) {w : WD} {σ μ : mS} (H : LC L w 0 σ μ) (hl : lB L = 23) : LO L w (xx8_texts (lNn L) σ 23) (mm_ofStrings (lNn L) μ 23) := by
  exact lib_lower E H hl
theorem lb_24 {L : LQ} (E : EVok (lE L)) {w : WD} {σ μ : mS} (H : LC L w 0 σ μ) (hl : lB L = 24) : LO L w (xx8_texts (lNn L) σ 24) (mm_ofStrings (lNn L) μ 24) := by
  exact lib_upper E H hl
theorem lb_25 {L : LQ} (E : EVok (lE L)) {w : WD} {σ μ : mS} (H : LC L w 0 σ μ) (hl : lB L = 25) : LO L w (xx8_texts (lNn L) σ 25) (mm_ofStrings (lNn L) μ 25) := by
  exact lib_find E H hl
theorem lb_26 {L : LQ} (E : EVok (lE L)) {w : WD} {σ μ : mS} (H : LC L w 0 σ μ) (hl : lB L = 26) : LO L w (xx8_texts (lNn L) σ 26) (mm_ofStrings (lNn L) μ 26) := by
  exact lib_format E H hl
theorem ex_27 {N : Nat} {z : mS} : xx8_tables N z 27 = xx8_insert N z := show bx (xx8_insert N z) (fun z7 => xx8_tables_b75 N z7) = _ from bx_ok
theorem lb_27 {L : LQ} (E : EVok (lE L)) {w : WD} {σ μ : mS} (H : LC L w 0 σ μ) (hl : lB L = 27) : LO L w (xx8_tables (lNn L) σ 27) (mm_ofTables (lNn L) μ 27) := by
  rw [ex_27]
  exact lib_insert E H hl
theorem lb_28 {L : LQ} (E : EVok (lE L)) {w : WD} {σ μ : mS} (H : LC L w 0 σ μ) (hl : lB L = 28) : LO L w (xx8_tables (lNn L) σ 28) (mm_ofTables (lNn L) μ 28) := by
  exact lib_remove E H hl
theorem lb_29 {L : LQ} (E : EVok (lE L)) {w : WD} {σ μ : mS} (H : LC L w 0 σ μ) (hl : lB L = 29) : LO L w (xx8_tables (lNn L) σ 29) (mm_ofTables (lNn L) μ 29) := by
  exact lib_concat E H hl
theorem ex_30 {N : Nat} {z : mS} : xx8_tables N z 30 = xx8_unpack N z := show bx (xx8_unpack N z) (fun z7 => xx8_tables_b75 N z7) = _ from bx_ok
theorem lb_30 {L : LQ} (E : EVok (lE L)) {w : WD} {σ μ : mS} (H : LC L w 0 σ μ) (hl : lB L = 30) : LO L w (xx8_tables (lNn L) σ 30) (mm_ofTables (lNn L) μ 30) := by
  rw [ex_30]
  exact lib_unpack E H hl
theorem ex_31 {N : Nat} {z : mS} : xx8_tables N z 31 = xx8_pack N z := show bx (xx8_pack N z) (fun z7 => xx8_tables_b75 N z7) = _ from bx_ok
theorem lb_31 {L : LQ} (E : EVok (lE L)) {w : WD} {σ μ : mS} (H : LC L w 0 σ μ) (hl : lB L = 31) : LO L w (xx8_tables (lNn L) σ 31) (mm_ofTables (lNn L) μ 31) := by
  rw [ex_31]
  exact lib_pack E H
theorem lb_32 {L : LQ} (E : EVok (lE L)) {w : WD} {σ μ : mS} (H : LC L w 0 σ μ) (hl : lB L = 32) : LO L w (xx8_tables (lNn L) σ 32) (mm_ofTables (lNn L) μ 32) := by
  exact lib_sort E H hl
theorem lb_33 {L : LQ} (E : EVok (lE L)) {w : WD} {σ μ : mS} (H : LC L w 0 σ μ) (hl : lB L = 33) : LO L w (xx8_math (lNn L) σ 33) (mm_ofNumbers (lNn L) μ 33) := by
  exact lib_abs E H hl
theorem em_34 {N : Nat} {z : mS} : mm_ofNumbers N z 34 = mm_extreme N z 34 := show bd (mm_extreme N z 34) (fun z7 => mm_ofNumbers_349 N z7) = _ from bd_id
theorem lb_34 {L : LQ} (E : EVok (lE L)) {w : WD} {σ μ : mS} (H : LC L w 0 σ μ) (hl : lB L = 34) : LO L w (xx8_math (lNn L) σ 34) (mm_ofNumbers (lNn L) μ 34) := by
  rw [em_34]
  exact lib_extreme E H (v1 := 34) (.inl rfl) (by rw [hl]; rfl)
theorem em_35 {N : Nat} {z : mS} : mm_ofNumbers N z 35 = mm_extreme N z 35 := show bd (mm_extreme N z 35) (fun z7 => mm_ofNumbers_349 N z7) = _ from bd_id
theorem lb_35 {L : LQ} (E : EVok (lE L)) {w : WD} {σ μ : mS} (H : LC L w 0 σ μ) (hl : lB L = 35) : LO L w (xx8_math (lNn L) σ 35) (mm_ofNumbers (lNn L) μ 35) := by
  rw [em_35]
  exact lib_extreme E H (v1 := 35) (.inr rfl) (by rw [hl]; rfl)
theorem lb_36 {L : LQ} (E : EVok (lE L)) {w : WD} {σ μ : mS} (H : LC L w 0 σ μ) (hl : lB L = 36) : LO L w (xx8_math (lNn L) σ 36) (mm_ofNumbers (lNn L) μ 36) := by
  exact lib_ult E H hl
theorem lb_37 {L : LQ} (E : EVok (lE L)) {w : WD} {σ μ : mS} (H : LC L w 0 σ μ) (hl : lB L = 37) : LO L w (xx8_math (lNn L) σ 37) (mm_ofNumbers (lNn L) μ 37) := by
  exact lib_toint H
theorem lb_45 {L : LQ} (E : EVok (lE L)) {w : WD} {σ μ : mS} (H : LC L w 0 σ μ) (hl : lB L = 45) : LO L w (xx8_plain (lNn L) σ 45) (mm_ofNumbers (lNn L) μ 45) := by
  exact lib_step E H hl
theorem em_38 {N : Nat} {z : mS} : mm_ofNumbers N z 38 = mm_ofThreads N z 38 := show bd (mm_ofThreads N z 38) (fun z7 => mm_ofNumbers_349 N z7) = _ from bd_id
theorem em_41 {N : Nat} {z : mS} : mm_ofNumbers N z 41 = mm_ofThreads N z 41 := show bd (mm_ofThreads N z 41) (fun z7 => mm_ofNumbers_349 N z7) = _ from bd_id
theorem em_42 {N : Nat} {z : mS} : mm_ofNumbers N z 42 = mm_ofThreads N z 42 := show bd (mm_ofThreads N z 42) (fun z7 => mm_ofNumbers_349 N z7) = _ from bd_id
theorem em_43 {N : Nat} {z : mS} : mm_ofNumbers N z 43 = mm_ofThreads N z 43 := show bd (mm_ofThreads N z 43) (fun z7 => mm_ofNumbers_349 N z7) = _ from bd_id
theorem em_44 {N : Nat} {z : mS} : mm_ofNumbers N z 44 = mm_ofThreads N z 44 := show bd (mm_ofThreads N z 44) (fun z7 => mm_ofNumbers_349 N z7) = _ from bd_id
theorem LB_LC {e : EV} {w : WD} {xf : Int32 → List Int32} {c d n : Int32} {rest : PL2} {ct : CT} {σ μ : mS} {lib : Nat} (H : CL e w xf c d rest ct σ μ) (X : NX w xf) (A : AR w σ μ ct.2.2.2.1 n) (n1 : n ≤ 100) (hl : lib < 46) : LC (e, xf, c, d, rest, ct, lib, n, sF σ 396, sF μ 154) w 0 (s541 (Int32.ofNat lib) σ) (mO ct.2.2.2.1 n μ) := by
  have fr : m_fr (fun k => [541, 402].contains k) σ (s541 (Int32.ofNat lib) σ) := mf_pi (mf_pi mf_rfl rfl) rfl
  have fm : m_fr (fun k => [221, 222, 227, 190].contains k) μ (mO ct.2.2.2.1 n μ) := mf_pi (mf_pi (mf_pi (mf_pi mf_rfl rfl) rfl) rfl) rfl
  have C : CL e w xf c d rest ct (s541 (Int32.ofNat lib) σ) (mO ct.2.2.2.1 n μ) := CL_lt H (mf_pi (mf_pi mf_rfl rfl) rfl) (mf_pi (mf_pi (mf_pi (mf_pi mf_rfl rfl) rfl) rfl) rfl) (by simp only [s541, sF_pi, sF_pl, sF_ai, sF_al, sG_pi, sG_pl, sG_ai, sG_al, sI_pi, sI_pl, sI_al, sI_ai1, sI_ai2, sJ_pi, sJ_pl, sJ_ai, sJ_al1, sJ_al2, Nat.reduceEqDiff, if_true, if_false, ne_eq, not_false_eq_true, ite_true, ite_false]; exact CL_0 H)
  refine ⟨⟨C, mf_F fr rfl, mf_F fm rfl⟩, ⟨AR_fr A wle_rfl fr fm rfl rfl rfl rfl rfl rfl, n1⟩, ⟨hl, ?_, ?_, ?_, ?_, X⟩, ⟨?_, ?_, Int32.le_refl _, by decide, fun k k0 k1 => (Int32.lt_irrefl (Int32.lt_of_le_of_lt k0 k1)).elim⟩, by decide⟩
  · simp only [s541, sF_pi, sF_pl, sF_ai, sF_al, sG_pi, sG_pl, sG_ai, sG_al, sI_pi, sI_pl, sI_al, sI_ai1, sI_ai2, sJ_pi, sJ_pl, sJ_ai, sJ_al1, sJ_al2, Nat.reduceEqDiff, if_true, if_false, ne_eq, not_false_eq_true, ite_true, ite_false]; rfl
  · simp only [mO, sF_pi, sF_pl, sF_ai, sF_al, sG_pi, sG_pl, sG_ai, sG_al, sI_pi, sI_pl, sI_al, sI_ai1, sI_ai2, sJ_pi, sJ_pl, sJ_ai, sJ_al1, sJ_al2, Nat.reduceEqDiff, if_true, if_false, ne_eq, not_false_eq_true, ite_true, ite_false]; rfl
  · simp only [mO, sF_pi, sF_pl, sF_ai, sF_al, sG_pi, sG_pl, sG_ai, sG_al, sI_pi, sI_pl, sI_al, sI_ai1, sI_ai2, sJ_pi, sJ_pl, sJ_ai, sJ_al1, sJ_al2, Nat.reduceEqDiff, if_true, if_false, ne_eq, not_false_eq_true, ite_true, ite_false]; rfl
  · simp only [mO, sF_pi, sF_pl, sF_ai, sF_al, sG_pi, sG_pl, sG_ai, sG_al, sI_pi, sI_pl, sI_al, sI_ai1, sI_ai2, sJ_pi, sJ_pl, sJ_ai, sJ_al1, sJ_al2, Nat.reduceEqDiff, if_true, if_false, ne_eq, not_false_eq_true, ite_true, ite_false]
  · simp only [s541, sF_pi, sF_pl, sF_ai, sF_al, sG_pi, sG_pl, sG_ai, sG_al, sI_pi, sI_pl, sI_al, sI_ai1, sI_ai2, sJ_pi, sJ_pl, sJ_ai, sJ_al1, sJ_al2, Nat.reduceEqDiff, if_true, if_false, ne_eq, not_false_eq_true, ite_true, ite_false]
  · simp only [mO, sF_pi, sF_pl, sF_ai, sF_al, sG_pi, sG_pl, sG_ai, sG_al, sI_pi, sI_pl, sI_al, sI_ai1, sI_ai2, sJ_pi, sJ_pl, sJ_ai, sJ_al1, sJ_al2, Nat.reduceEqDiff, if_true, if_false, ne_eq, not_false_eq_true, ite_true, ite_false]
theorem LB_all {e : EV} (E : EVok e) : LBst e := by
  intro dT w xf c d rest ct σ μ n lib H X A n1 hl h6 h39 h40
  have C := LB_LC H X A n1 hl
  rcases (show lib = 0 ∨ lib = 1 ∨ lib = 2 ∨ lib = 3 ∨ lib = 4 ∨ lib = 5 ∨ lib = 7 ∨ lib = 8 ∨ lib = 9 ∨ lib = 10 ∨ lib = 11 ∨ lib = 12 ∨ lib = 13 ∨ lib = 14 ∨ lib = 15 ∨ lib = 16 ∨ lib = 17 ∨ lib = 18 ∨ lib = 19 ∨ lib = 20 ∨ lib = 21 ∨ lib = 22 ∨ lib = 23 ∨ lib = 24 ∨ lib = 25 ∨ lib = 26 ∨ lib = 27 ∨ lib = 28 ∨ lib = 29 ∨ lib = 30 ∨ lib = 31 ∨ lib = 32 ∨ lib = 33 ∨ lib = 34 ∨ lib = 35 ∨ lib = 36 ∨ lib = 37 ∨ lib = 38 ∨ lib = 41 ∨ lib = 42 ∨ lib = 43 ∨ lib = 44 ∨ lib = 45 by omega) with h | h | h | h | h | h | h | h | h | h | h | h | h | h | h | h | h | h | h | h | h | h | h | h | h | h | h | h | h | h | h | h | h | h | h | h | h | h | h | h | h | h | h
  all_goals subst h
  · exact LB_of (L := (e, xf, c, d, rest, ct, 0, n, sF σ 396, sF μ 154)) rfl rfl (lb_0 (L := (e, xf, c, d, rest, ct, 0, n, sF σ 396, sF μ 154)) E C rfl)
  · exact LB_of (L := (e, xf, c, d, rest, ct, 1, n, sF σ 396, sF μ 154)) rfl rfl (lb_1 (L := (e, xf, c, d, rest, ct, 1, n, sF σ 396, sF μ 154)) E C rfl)
  · exact LB_of (L := (e, xf, c, d, rest, ct, 2, n, sF σ 396, sF μ 154)) rfl rfl (lb_2 (L := (e, xf, c, d, rest, ct, 2, n, sF σ 396, sF μ 154)) E C rfl)
  · exact LB_of (L := (e, xf, c, d, rest, ct, 3, n, sF σ 396, sF μ 154)) rfl rfl (lb_3 (L := (e, xf, c, d, rest, ct, 3, n, sF σ 396, sF μ 154)) E C rfl)
  · exact LB_of (L := (e, xf, c, d, rest, ct, 4, n, sF σ 396, sF μ 154)) rfl rfl (lb_4 (L := (e, xf, c, d, rest, ct, 4, n, sF σ 396, sF μ 154)) E C rfl)
  · exact LB_of (L := (e, xf, c, d, rest, ct, 5, n, sF σ 396, sF μ 154)) rfl rfl (lb_5 (L := (e, xf, c, d, rest, ct, 5, n, sF σ 396, sF μ 154)) E C rfl)
  · exact LB_of (L := (e, xf, c, d, rest, ct, 7, n, sF σ 396, sF μ 154)) rfl rfl (lb_7 (L := (e, xf, c, d, rest, ct, 7, n, sF σ 396, sF μ 154)) E C rfl)
  · exact LB_of (L := (e, xf, c, d, rest, ct, 8, n, sF σ 396, sF μ 154)) rfl rfl (lb_8 (L := (e, xf, c, d, rest, ct, 8, n, sF σ 396, sF μ 154)) E C rfl)
  · exact LB_of (L := (e, xf, c, d, rest, ct, 9, n, sF σ 396, sF μ 154)) rfl rfl (lb_9 (L := (e, xf, c, d, rest, ct, 9, n, sF σ 396, sF μ 154)) E C rfl)
  · exact LB_of (L := (e, xf, c, d, rest, ct, 10, n, sF σ 396, sF μ 154)) rfl rfl (lb_10 (L := (e, xf, c, d, rest, ct, 10, n, sF σ 396, sF μ 154)) E C rfl)
  · exact LB_of (L := (e, xf, c, d, rest, ct, 11, n, sF σ 396, sF μ 154)) rfl rfl (lb_11 (L := (e, xf, c, d, rest, ct, 11, n, sF σ 396, sF μ 154)) E C rfl)
  · exact LB_of (L := (e, xf, c, d, rest, ct, 12, n, sF σ 396, sF μ 154)) rfl rfl (lb_12 (L := (e, xf, c, d, rest, ct, 12, n, sF σ 396, sF μ 154)) E C rfl)
  · exact LB_of (L := (e, xf, c, d, rest, ct, 13, n, sF σ 396, sF μ 154)) rfl rfl (lb_13 (L := (e, xf, c, d, rest, ct, 13, n, sF σ 396, sF μ 154)) E C rfl)
  · exact LB_of (L := (e, xf, c, d, rest, ct, 14, n, sF σ 396, sF μ 154)) rfl rfl (lb_14 (L := (e, xf, c, d, rest, ct, 14, n, sF σ 396, sF μ 154)) E C rfl)
  · exact LB_of (L := (e, xf, c, d, rest, ct, 15, n, sF σ 396, sF μ 154)) rfl rfl (lb_15 (L := (e, xf, c, d, rest, ct, 15, n, sF σ 396, sF μ 154)) E C rfl)
  · exact LB_of (L := (e, xf, c, d, rest, ct, 16, n, sF σ 396, sF μ 154)) rfl rfl (lb_16 (L := (e, xf, c, d, rest, ct, 16, n, sF σ 396, sF μ 154)) E C rfl)
  · exact LB_of (L := (e, xf, c, d, rest, ct, 17, n, sF σ 396, sF μ 154)) rfl rfl (lb_17 (L := (e, xf, c, d, rest, ct, 17, n, sF σ 396, sF μ 154)) E C rfl)
  · exact LB_of (L := (e, xf, c, d, rest, ct, 18, n, sF σ 396, sF μ 154)) rfl rfl (lb_18 (L := (e, xf, c, d, rest, ct, 18, n, sF σ 396, sF μ 154)) E C rfl)
  · exact LB_of (L := (e, xf, c, d, rest, ct, 19, n, sF σ 396, sF μ 154)) rfl rfl (lb_19 (L := (e, xf, c, d, rest, ct, 19, n, sF σ 396, sF μ 154)) E C rfl)
  · exact LB_of (L := (e, xf, c, d, rest, ct, 20, n, sF σ 396, sF μ 154)) rfl rfl (lb_20 (L := (e, xf, c, d, rest, ct, 20, n, sF σ 396, sF μ 154)) E C rfl)
  · exact LB_of (L := (e, xf, c, d, rest, ct, 21, n, sF σ 396, sF μ 154)) rfl rfl (lb_21 (L := (e, xf, c, d, rest, ct, 21, n, sF σ 396, sF μ 154)) E C rfl)
  · exact LB_of (L := (e, xf, c, d, rest, ct, 22, n, sF σ 396, sF μ 154)) rfl rfl (lb_22 (L := (e, xf, c, d, rest, ct, 22, n, sF σ 396, sF μ 154)) E C rfl)
  · exact LB_of (L := (e, xf, c, d, rest, ct, 23, n, sF σ 396, sF μ 154)) rfl rfl (lb_23 (L := (e, xf, c, d, rest, ct, 23, n, sF σ 396, sF μ 154)) E C rfl)
  · exact LB_of (L := (e, xf, c, d, rest, ct, 24, n, sF σ 396, sF μ 154)) rfl rfl (lb_24 (L := (e, xf, c, d, rest, ct, 24, n, sF σ 396, sF μ 154)) E C rfl)
  · exact LB_of (L := (e, xf, c, d, rest, ct, 25, n, sF σ 396, sF μ 154)) rfl rfl (lb_25 (L := (e, xf, c, d, rest, ct, 25, n, sF σ 396, sF μ 154)) E C rfl)
  · exact LB_of (L := (e, xf, c, d, rest, ct, 26, n, sF σ 396, sF μ 154)) rfl rfl (lb_26 (L := (e, xf, c, d, rest, ct, 26, n, sF σ 396, sF μ 154)) E C rfl)
  · exact LB_of (L := (e, xf, c, d, rest, ct, 27, n, sF σ 396, sF μ 154)) rfl rfl (lb_27 (L := (e, xf, c, d, rest, ct, 27, n, sF σ 396, sF μ 154)) E C rfl)
  · exact LB_of (L := (e, xf, c, d, rest, ct, 28, n, sF σ 396, sF μ 154)) rfl rfl (lb_28 (L := (e, xf, c, d, rest, ct, 28, n, sF σ 396, sF μ 154)) E C rfl)
  · exact LB_of (L := (e, xf, c, d, rest, ct, 29, n, sF σ 396, sF μ 154)) rfl rfl (lb_29 (L := (e, xf, c, d, rest, ct, 29, n, sF σ 396, sF μ 154)) E C rfl)
  · exact LB_of (L := (e, xf, c, d, rest, ct, 30, n, sF σ 396, sF μ 154)) rfl rfl (lb_30 (L := (e, xf, c, d, rest, ct, 30, n, sF σ 396, sF μ 154)) E C rfl)
  · exact LB_of (L := (e, xf, c, d, rest, ct, 31, n, sF σ 396, sF μ 154)) rfl rfl (lb_31 (L := (e, xf, c, d, rest, ct, 31, n, sF σ 396, sF μ 154)) E C rfl)
  · exact LB_of (L := (e, xf, c, d, rest, ct, 32, n, sF σ 396, sF μ 154)) rfl rfl (lb_32 (L := (e, xf, c, d, rest, ct, 32, n, sF σ 396, sF μ 154)) E C rfl)
  · exact LB_of (L := (e, xf, c, d, rest, ct, 33, n, sF σ 396, sF μ 154)) rfl rfl (lb_33 (L := (e, xf, c, d, rest, ct, 33, n, sF σ 396, sF μ 154)) E C rfl)
  · exact LB_of (L := (e, xf, c, d, rest, ct, 34, n, sF σ 396, sF μ 154)) rfl rfl (lb_34 (L := (e, xf, c, d, rest, ct, 34, n, sF σ 396, sF μ 154)) E C rfl)
  · exact LB_of (L := (e, xf, c, d, rest, ct, 35, n, sF σ 396, sF μ 154)) rfl rfl (lb_35 (L := (e, xf, c, d, rest, ct, 35, n, sF σ 396, sF μ 154)) E C rfl)
  · exact LB_of (L := (e, xf, c, d, rest, ct, 36, n, sF σ 396, sF μ 154)) rfl rfl (lb_36 (L := (e, xf, c, d, rest, ct, 36, n, sF σ 396, sF μ 154)) E C rfl)
  · exact LB_of (L := (e, xf, c, d, rest, ct, 37, n, sF σ 396, sF μ 154)) rfl rfl (lb_37 (L := (e, xf, c, d, rest, ct, 37, n, sF σ 396, sF μ 154)) E C rfl)
  · have q := lib_create (L := (e, xf, c, d, rest, ct, 38, n, sF σ 396, sF μ 154)) (T := rc_xx6_begin (eN e) dT) (a2 := ct.1) (a3 := ct.2.1) (a4 := ct.2.2.1) E C rfl
    have q1 : LO (e, xf, c, d, rest, ct, 38, n, sF σ 396, sF μ 154) w (bx (bxx8_coroutines (eN e) (rc_xx6_begin (eN e) dT) (s541 (Int32.ofNat 38) σ) 38 ct.1 ct.2.1 ct.2.2.1) (fun z => some (.ok z.2))) (mm_ofNumbers (eN e) (mO ct.2.2.2.1 n μ) 38) := by rw [em_38]; exact q.1
    have r := LB_of (T := rc_xx6_begin (eN e) (dT + 1)) (σ := σ) (μ := μ) (p := ct.2.2.2.1) (a := ct.2.2.2.2.1) (b := ct.2.2.2.2.2) rfl rfl q1
    have e1 := LB_co (N := eN e) (T := rc_xx6_begin (eN e) (dT + 1)) q.2
    have r2 := e1 ▸ r
    exact r2
  · have q := lib_status (L := (e, xf, c, d, rest, ct, 41, n, sF σ 396, sF μ 154)) (T := rc_xx6_begin (eN e) dT) (a2 := ct.1) (a3 := ct.2.1) (a4 := ct.2.2.1) E C rfl
    have q1 : LO (e, xf, c, d, rest, ct, 41, n, sF σ 396, sF μ 154) w (bx (bxx8_coroutines (eN e) (rc_xx6_begin (eN e) dT) (s541 (Int32.ofNat 41) σ) 41 ct.1 ct.2.1 ct.2.2.1) (fun z => some (.ok z.2))) (mm_ofNumbers (eN e) (mO ct.2.2.2.1 n μ) 41) := by rw [em_41]; exact q.1
    have r := LB_of (T := rc_xx6_begin (eN e) (dT + 1)) (σ := σ) (μ := μ) (p := ct.2.2.2.1) (a := ct.2.2.2.2.1) (b := ct.2.2.2.2.2) rfl rfl q1
    have e1 := LB_co (N := eN e) (T := rc_xx6_begin (eN e) (dT + 1)) q.2
    have r2 := e1 ▸ r
    exact r2
  · have q := lib_wrap (L := (e, xf, c, d, rest, ct, 42, n, sF σ 396, sF μ 154)) (T := rc_xx6_begin (eN e) dT) (a2 := ct.1) (a3 := ct.2.1) (a4 := ct.2.2.1) E C rfl
    have q1 : LO (e, xf, c, d, rest, ct, 42, n, sF σ 396, sF μ 154) w (bx (bxx8_coroutines (eN e) (rc_xx6_begin (eN e) dT) (s541 (Int32.ofNat 42) σ) 42 ct.1 ct.2.1 ct.2.2.1) (fun z => some (.ok z.2))) (mm_ofNumbers (eN e) (mO ct.2.2.2.1 n μ) 42) := by rw [em_42]; exact q.1
    have r := LB_of (T := rc_xx6_begin (eN e) (dT + 1)) (σ := σ) (μ := μ) (p := ct.2.2.2.1) (a := ct.2.2.2.2.1) (b := ct.2.2.2.2.2) rfl rfl q1
    have e1 := LB_co (N := eN e) (T := rc_xx6_begin (eN e) (dT + 1)) q.2
    have r2 := e1 ▸ r
    exact r2
  · have q := lib_isy (L := (e, xf, c, d, rest, ct, 43, n, sF σ 396, sF μ 154)) (T := rc_xx6_begin (eN e) dT) (a2 := ct.1) (a3 := ct.2.1) (a4 := ct.2.2.1) C
    have q1 : LO (e, xf, c, d, rest, ct, 43, n, sF σ 396, sF μ 154) w (bx (bxx8_coroutines (eN e) (rc_xx6_begin (eN e) dT) (s541 (Int32.ofNat 43) σ) 43 ct.1 ct.2.1 ct.2.2.1) (fun z => some (.ok z.2))) (mm_ofNumbers (eN e) (mO ct.2.2.2.1 n μ) 43) := by rw [em_43]; exact q.1
    have r := LB_of (T := rc_xx6_begin (eN e) (dT + 1)) (σ := σ) (μ := μ) (p := ct.2.2.2.1) (a := ct.2.2.2.2.1) (b := ct.2.2.2.2.2) rfl rfl q1
    have e1 := LB_co (N := eN e) (T := rc_xx6_begin (eN e) (dT + 1)) q.2
    have r2 := e1 ▸ r
    exact r2
  · have q := lib_running (L := (e, xf, c, d, rest, ct, 44, n, sF σ 396, sF μ 154)) (T := rc_xx6_begin (eN e) dT) (a2 := ct.1) (a3 := ct.2.1) (a4 := ct.2.2.1) C
    have q1 : LO (e, xf, c, d, rest, ct, 44, n, sF σ 396, sF μ 154) w (bx (bxx8_coroutines (eN e) (rc_xx6_begin (eN e) dT) (s541 (Int32.ofNat 44) σ) 44 ct.1 ct.2.1 ct.2.2.1) (fun z => some (.ok z.2))) (mm_ofNumbers (eN e) (mO ct.2.2.2.1 n μ) 44) := by rw [em_44]; exact q.1
    have r := LB_of (T := rc_xx6_begin (eN e) (dT + 1)) (σ := σ) (μ := μ) (p := ct.2.2.2.1) (a := ct.2.2.2.2.1) (b := ct.2.2.2.2.2) rfl rfl q1
    have e1 := LB_co (N := eN e) (T := rc_xx6_begin (eN e) (dT + 1)) q.2
    have r2 := e1 ▸ r
    exact r2
  · exact LB_of (L := (e, xf, c, d, rest, ct, 45, n, sF σ 396, sF μ 154)) rfl rfl (lb_45 (L := (e, xf, c, d, rest, ct, 45, n, sF σ 396, sF μ 154)) E C rfl)
