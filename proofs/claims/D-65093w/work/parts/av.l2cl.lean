/-! LAYER 2: a call begins: what holds then; errors and stops in one shape -/
/-- the machines, and where what is given goes -/
def CL (e : EV) (w : WD) (xf : Int32 → List Int32) (c d : Int32) (rest : PL2) (ct : CT) (σ μ : mS) : Prop := ME (eS e) (eK e) (eQ e) w xf c d rest σ μ ∧ SV e w σ μ ∧ FL (eS e) w σ (mff μ) (sI μ 141) (sJ μ 142) (btO d) (sI μ 162 d) (sI μ 161 d) (xf c) (sF μ 154) ct
theorem CL_kb {e : EV} {w : WD} {xf : Int32 → List Int32} {c d : Int32} {rest : PL2} {ct : CT} {σ μ : mS} (H : CL e w xf c d rest ct σ μ) : kb (sI μ 162 d) (sI μ 161 d) (sF μ 154) := by
  have kb' := BC_kb H.1.2.2.2.2.2.1
  have cl := ME_calls H.1
  simp only at kb'
  exact ⟨kb'.1, by lia, kb'.2.2.1, kb'.2.2.2.1⟩
theorem FL_pl {S : SR} {w : WD} {σ : mS} {ff : Int32 → Nat → Int32} {pt : Int32 → Int32} {pv : Int32 → Int64} {bt k0 B0 n : Int32} {fl : List Int32} {ct : CT} (h : FL S w σ ff pt pv bt k0 B0 fl n ct) (k1 : 0 ≤ k0) (n1 : n ≤ 200) (b0 : 0 ≤ B0) (b1 : B0 ≤ 2300 * k0) : 0 ≤ ct.2.2.2.1 ∧ ct.2.2.2.1 ≤ 470000 ∧ k0 ≤ n := by
  cases fl with
  | nil =>
    obtain ⟨h1, h2, _, _⟩ := h
    rw [h2]
    exact ⟨b0, by lia, by lia⟩
  | cons f fl =>
    obtain ⟨h1, ⟨h2, h2'⟩, h3, _⟩ := h
    have q : 0 ≤ ff (n - 1) 5 ∧ ff (n - 1) 5 ≤ 458000 := ⟨by lia, by lia⟩
    clear h2 h2' b0 b1
    rcases h3 with ⟨_, _, _, _, s5, _⟩ | ⟨ρ, ⟨_, _, _, _, _, _, ⟨_, s7, s7'⟩, s8, _⟩, hpl, hρ, _⟩
    · rw [s5]; exact ⟨by lia, by lia, by lia⟩
    · have lb := oN_bd hρ
      rw [hpl, s8]; exact ⟨by lia, by lia, by lia⟩
theorem CL_b {e : EV} {w : WD} {xf : Int32 → List Int32} {c d : Int32} {rest : PL2} {ct : CT} {σ μ : mS} (H : CL e w xf c d rest ct σ μ) : 0 ≤ ct.2.2.2.1 ∧ ct.2.2.2.1 ≤ 470000 ∧ (0 ≤ sI μ 162 d ∧ sI μ 162 d ≤ sF μ 154 ∧ sF μ 154 ≤ 200) ∧ (0 ≤ sI μ 161 d ∧ sI μ 161 d ≤ ct.2.2.2.1) := by
  have kb' := BC_kb H.1.2.2.2.2.2.1
  have cl := ME_calls H.1
  simp only at kb'
  have a := FL_pl H.2.2 kb'.1 cl.2.1 kb'.2.2.1 kb'.2.2.2.2
  have b := FL_B H.2.2 (CL_kb H)
  exact ⟨a.1, a.2.1, ⟨kb'.1, a.2.2, cl.2.1⟩, kb'.2.2.1, b.1⟩
def agM (k : Nat) : Bool := [16, 17, 42, 43, 141, 142, 143].contains k || inR 188 190 k || inR 221 231 k
theorem agM_f {k : Nat} (h : (k < 16 ∨ (17 < k ∧ k < 42) ∨ (43 < k ∧ k < 141) ∨ (143 < k ∧ k < 188) ∨ (190 < k ∧ k < 221) ∨ 231 < k)) : agM k = false := by
  simp only [agM, inR, List.contains_cons, List.contains_nil, Bool.or_eq_false_iff, beq_eq_false_iff_ne, Bool.and_eq_false_iff, decide_eq_false_iff_not]
  (repeat' (first | exact trivial | omega | apply And.intro))
theorem ltM_ag {μ τm : mS} (h : m_fr ltM μ τm) : m_fr agM μ τm := mf_mono h (fun k hk => by
  simp only [agM, ltM, inR, List.contains_cons, List.contains_nil, Bool.or_eq_false_iff, beq_eq_false_iff_ne, Bool.and_eq_false_iff, decide_eq_false_iff_not] at hk ⊢
  (repeat' (first | exact trivial | omega | apply And.intro)))
/-- the system's arguments and the reference's pile behind the call's place may change -/
theorem CL_ag {e : EV} {w : WD} {xf : Int32 → List Int32} {c d : Int32} {rest : PL2} {ct : CT} {σ μ τ τm : mS} (H : CL e w xf c d rest ct σ μ) (fr : m_fr ltX σ τ) (frm : m_fr agM μ τm) (h406 : sF τ 406 = 0) (hp : ∀ i, 0 ≤ i → i < ct.2.2.2.1 → sI τm 141 i = sI μ 141 i ∧ sJ τm 142 i = sJ μ 142 i) : CL e w xf c d rest ct τ τm := by
  have bb := CL_b H
  have kk := CL_kb H
  obtain ⟨M, V, L⟩ := H
  have frp : m_fr ppX σ τ := ltX_p fr
  have frmp : m_fr ppM μ τm := mf_mono frm (fun k hk => by
    simp only [ppM, inR, List.contains_cons, List.contains_nil, Bool.or_eq_false_iff, beq_eq_false_iff_ne, Bool.and_eq_false_iff, decide_eq_false_iff_not] at hk
    exact agM_f (by omega))
  have hm : ∀ k j, j < 10 → mff τm k j = mff μ k j := fun k j hj => mf_I frm (agM_f (by omega))
  have e154 : sF τm 154 = sF μ 154 := mf_F frm (agM_f (by omega))
  have e162 : sI τm 162 d = sI μ 162 d := mf_I frm (agM_f (by omega))
  have e161 : sI τm 161 d = sI μ 161 d := mf_I frm (agM_f (by omega))
  have o := M.2.2.2.2.2.2.2.2.1
  refine ⟨ME_pp M frp frmp (XF_lt M.2.2.2.1 fr) (fun _ _ => rfl) (fun _ _ _ _ _ => xcs_lt fr) (fun k j _ _ hj => hm k j hj) (fun i i0 i1 => hp i i0 (by lia)) ?_, SV_pp V frp frmp h406, ?_⟩
  · rw [mf_F fr (ltX_f (by omega)), mf_F frm (agM_f (by omega)), e154]; exact o
  · rw [e162, e161, e154]
    exact FL_cg L kk wle_rfl (fun g _ => xcs_lt fr) (cds_fr fr (ltX_f (by omega)) (ltX_f (by omega)) (ltX_f (by omega))) (fun k j _ _ hj => hm k j hj) (fun i i0 i1 => hp i (by lia) i1)
theorem CL_lt {e : EV} {w : WD} {xf : Int32 → List Int32} {c d : Int32} {rest : PL2} {ct : CT} {σ μ τ τm : mS} (H : CL e w xf c d rest ct σ μ) (fr : m_fr ltX σ τ) (frm : m_fr ltM μ τm) (h406 : sF τ 406 = 0) : CL e w xf c d rest ct τ τm := CL_ag H fr (ltM_ag frm) h406 (fun i _ _ => ⟨mf_I frm (ltM_f (by omega)), mf_J frm (ltM_f (by omega))⟩)
theorem CL_0 {e : EV} {w : WD} {xf : Int32 → List Int32} {c d : Int32} {rest : PL2} {ct : CT} {σ μ : mS} (H : CL e w xf c d rest ct σ μ) : sF σ 406 = 0 := H.2.1.2.2.2.2.1
/-- the heap grows -/
theorem CL_fr {P Q : Nat → Bool} {e : EV} {w w' : WD} {xf : Int32 → List Int32} {c d : Int32} {rest : PL2} {ct : CT} {σ μ τ τm : mS} (H : CL e w xf c d rest ct σ μ) (M : ME (eS e) (eK e) (eQ e) w' xf c d rest τ τm) (V : SV e w' τ τm) (wl : wle w w') (hc : cds w σ τ) (fr : m_fr P σ τ) (frm : m_fr Q μ τm) (hp : ∀ k, kX k → P k = false) (hq : ∀ k, kM k → Q k = false) : CL e w' xf c d rest ct τ τm := by
  refine ⟨M, V, ?_⟩
  have := FLr_fr H.2.2 (CL_kb H) wl hc fr frm hp hq
  rw [mf_F frm (hq 154 ⟨by omega, by omega⟩), mf_I (k := 162) frm (hq 162 ⟨by omega, by omega⟩), mf_I (k := 161) frm (hq 161 ⟨by omega, by omega⟩)]
  exact this
/-- an error is thrown, or the run stops, on both sides; h: what the reference's method answers then -/
def OE {α β : Type} (e : EV) (w : WD) (xf : Int32 → List Int32) (c d : Int32) (rest : PL2) (ct : CT) (σ μ : mS) (h : mS → β) (ox : Option (Except (Nat × mS) α)) (om : Option β) : Prop :=
  (∃ w' τ τm ty v dd, ox = some (.error (1107, τ)) ∧ (∀ μ', (rc_finish (eN e) dd).2.2.1 τm ty v = some μ' → ∃ μ2, om = some (h μ2) ∧ m_fr (fun k => k == 227) μ' μ2) ∧ 440 ≤ dd ∧ wle w w' ∧ CL e w' xf c d rest ct τ τm ∧ TH w' τ ty v ∧ sF τ 405 = lnH τ (xf c) ∧ sF τ 396 = sF σ 396 ∧ sF τm 154 = sF μ 154)
  ∨ (∃ w' τ τm a why, ((a = 1101 ∧ why = 3) ∨ (a = 1116 ∧ why = 2)) ∧ ox = some (.error (a, τ)) ∧ (∀ μ', mm_breakOff (eN e) τm why = some μ' → ∃ μ2, om = some (h μ2) ∧ m_fr tK μ' μ2) ∧ CL e w' xf c d rest ct τ τm)
theorem OE_bx {α γ β : Type} {e : EV} {w : WD} {xf : Int32 → List Int32} {c d : Int32} {rest : PL2} {ct : CT} {σ μ : mS} {h : mS → β} {ox : Option (Except (Nat × mS) α)} {om : Option β} {f : α → Option (Except (Nat × mS) γ)} (H : OE e w xf c d rest ct σ μ h ox om) : OE e w xf c d rest ct σ μ h (bx ox f) om := by
  rcases H with ⟨w', τ, τm, ty, v, dd, a1, a2⟩ | ⟨w', τ, τm, a, why, a0, a1, a2⟩
  · exact .inl ⟨w', τ, τm, ty, v, dd, by rw [a1]; rfl, a2⟩
  · exact .inr ⟨w', τ, τm, a, why, a0, by rw [a1]; rfl, a2⟩
theorem OE_bd {α β γ : Type} {e : EV} {w : WD} {xf : Int32 → List Int32} {c d : Int32} {rest : PL2} {ct : CT} {σ μ : mS} {h : mS → β} {h' : mS → γ} {ox : Option (Except (Nat × mS) α)} {om : Option β} {k : β → Option γ} (H : OE e w xf c d rest ct σ μ h ox om) (hk : ∀ z, k (h z) = some (h' z)) : OE e w xf c d rest ct σ μ h' ox (bd om k) := by
  rcases H with ⟨w', τ, τm, ty, v, dd, a1, a2, a3⟩ | ⟨w', τ, τm, a, why, a0, a1, a2, a3⟩
  · refine .inl ⟨w', τ, τm, ty, v, dd, a1, fun μ' hm => ?_, a3⟩
    obtain ⟨μ2, b1, b2⟩ := a2 μ' hm
    exact ⟨μ2, by rw [b1]; exact hk μ2, b2⟩
  · refine .inr ⟨w', τ, τm, a, why, a0, a1, fun μ' hm => ?_, a3⟩
    obtain ⟨μ2, b1, b2⟩ := a2 μ' hm
    exact ⟨μ2, by rw [b1]; exact hk μ2, b2⟩
/-- the mark 227 may be set behind -/
theorem OE_27 {α β γ : Type} {e : EV} {w : WD} {xf : Int32 → List Int32} {c d : Int32} {rest : PL2} {ct : CT} {σ μ : mS} {h : mS → β} {h' : mS → γ} {ox : Option (Except (Nat × mS) α)} {om : Option β} {k : β → Option γ} (H : OE e w xf c d rest ct σ μ h ox om) (hk : ∀ z, ∃ z', k (h z) = some (h' z') ∧ m_fr (fun k => k == 227) z z') : OE e w xf c d rest ct σ μ h' ox (bd om k) := by
  rcases H with ⟨w', τ, τm, ty, v, dd, a1, a2, a3⟩ | ⟨w', τ, τm, a, why, a0, a1, a2, a3⟩
  · refine .inl ⟨w', τ, τm, ty, v, dd, a1, fun μ' hm => ?_, a3⟩
    obtain ⟨μ2, b1, b2⟩ := a2 μ' hm
    obtain ⟨z', c1, c2⟩ := hk μ2
    exact ⟨z', by rw [b1]; exact c1, mf_tr b2 c2⟩
  · refine .inr ⟨w', τ, τm, a, why, a0, a1, fun μ' hm => ?_, a3⟩
    obtain ⟨μ2, b1, b2⟩ := a2 μ' hm
    obtain ⟨z', c1, c2⟩ := hk μ2
    refine ⟨z', by rw [b1]; exact c1, mf_tr b2 (mf_mono c2 (fun k hk => ?_))⟩
    simp only [tK, inR, List.contains_cons, List.contains_nil, Bool.or_eq_false_iff, beq_eq_false_iff_ne, Bool.and_eq_false_iff, decide_eq_false_iff_not] at hk
    simp only [beq_eq_false_iff_ne]; omega
/-- what was before: a state that CL holds of, with the same fuel and calls -/
theorem OE_of {α β : Type} {e : EV} {w w1 : WD} {xf : Int32 → List Int32} {c d : Int32} {rest : PL2} {ct : CT} {σ μ σ1 μ1 : mS} {h : mS → β} {ox : Option (Except (Nat × mS) α)} {om : Option β} (H : OE e w1 xf c d rest ct σ1 μ1 h ox om) (wl : wle w w1) (e1 : sF σ1 396 = sF σ 396) (e2 : sF μ1 154 = sF μ 154) : OE e w xf c d rest ct σ μ h ox om := by
  rcases H with ⟨w', τ, τm, ty, v, dd, a1, a2, a3, a4, a5, a6, a7, a8, a9⟩ | H
  · exact .inl ⟨w', τ, τm, ty, v, dd, a1, a2, a3, wle_tr wl a4, a5, a6, a7, a8.trans e1, a9.trans e2⟩
  · exact .inr H
theorem MF_27 {e : EV} {M : Nat} {μ μ2 : mS} {rx : Int32 × mS} (H : MF e M μ rx) (fr : m_fr (fun k => k == 227) μ μ2) : MF e M μ2 rx := fun μ3 f => H μ3 (mf_tr fr f)
theorem MT_t {e : EV} {M : Nat} {μ μ2 : mS} {rx : Int32 × mS} (H : MT e M μ rx) (fr : m_fr tK μ μ2) : MT e M μ2 rx := fun μ3 f => H μ3 (mf_tr fr f)
theorem OE_G2 {e : EV} (E : EVok e) {M n : Nat} {F n0 : Int32} (RA : RAst e M F n0 n) {w : WD} {xf : Int32 → List Int32} {c d : Int32} {rest : PL2} {ct : CT} {σ μ : mS} {ox : Option (Except (Nat × mS) mS)} {om : Option mS} (H : OE e w xf c d rest ct σ μ (fun z => z) ox om) (hF : sF σ 396 = F) (hn0 : sF μ 154 - 1 ≤ n0) (hn : (sF μ 154).toInt ≤ n) : G2 e 1000 (M + 1) ox om := by
  have hE := E.1
  rcases H with ⟨w', τ, τm, ty, v, dd, a1, a2, a3, a4, a5, a6, a7, a8, a9⟩ | ⟨w', τ, τm, a, why, a0, a1, a2, a3⟩
  · have b := (CL_b a5).2.2.1
    have b3 : (sF τm 154).toInt ≤ 200 := by have := b.2.2; rw [tI_le] at this; exact this
    have b1 : 0 ≤ (sF τm 154).toInt := by have : 0 ≤ sF τm 154 := by lia
                                          rw [tI_le] at this; exact this
    obtain ⟨cc, hcc⟩ : ∃ cc : Nat, (sF τm 154).toInt = cc := ⟨(sF τm 154).toInt.toNat, by omega⟩
    obtain ⟨dd, rfl⟩ : ∃ i, dd = i + 1 := ⟨dd - 1, by omega⟩
    obtain ⟨rx, μ', r1, r2, r3⟩ := RA w' xf c d rest τ τm ty v dd 999 (by rw [a9]; exact hn) a5.1 a5.2.1 (FL_UN a5.2.2) (FL_LK a5.2.2) a6 a7 (a8.trans hF) (by rw [a9]; exact hn0) (by omega) (by omega) (by omega)
    obtain ⟨μ2, m1, m2⟩ := a2 μ' (r1 (eN e) (by omega))
    have ce : CE e (999 + 1) (M + 1) τ rx := CE_of (cl := cc) (fun nn k n' h1 h2 h3 => r2 nn k n' (by omega) h2 h3) (by omega)
    exact ⟨rx, μ2, m1, by rw [a1]; exact XE_br ce (by omega), by rw [a1]; exact UE_br ce, MF_27 r3 m2⟩
  · obtain ⟨rx, μ', s1, s2, s3, s4⟩ := stop_2 E a3.1 a3.2.1 (FL_LK a3.2.2) a0
    obtain ⟨μ2, m1, m2⟩ := a2 μ' s1
    have aa : a = 1101 ∨ a = 1116 := a0.imp And.left And.left
    exact ⟨rx, μ2, m1, by rw [a1]; exact XE_st s2 aa, by rw [a1]; exact UE_st s2 aa s3, MT_F (MT_t (s4 _) m2)⟩
/-- fault(message) -/
theorem fault_OE {e : EV} (E : EVok e) {w : WD} {xf : Int32 → List Int32} {c d : Int32} {rest : PL2} {ct : CT} {σ μ : mS} (H : CL e w xf c d rest ct σ μ) {t tm : Nat} (ht : t < 141) (htm : tm < 76) (he : xtx t = mtx tm) (hlen : (mtx tm).length ≤ 100) {α : Type} : OE (α := α) e w xf c d rest ct σ μ (fun z => z) (bx (xx6_fault (eN e) σ (3000 + t)) (fun z => some (Except.error (z.1, z.2)))) (mm_fault_2 (eN e) μ tm) := by
  have hp : ∀ k, kX k → gX k = false := fun k hk => gX_f (.inl hk)
  have hq : ∀ k, kM k → gM k = false := fun k hk => gM_k (.inl hk)
  have q : mm_fault_2 (eN e) μ tm = (rc_finish (eN e) (448 + 2)).1 μ tm := rfl
  rw [q]
  rcases fault_2 (EV_N E) H.1 (FL_LK H.2.2) ht htm he hlen 448 with ⟨τ, τm, a1, a2, a3, a4, a5⟩ | ⟨τ, τm, w', v', a1, a2, a3, a4, a5, a6, a7, a8, a9⟩
  · have V' := SV_fr H.2.1 wle_rfl a4 a5 (fun k hk => gX_R hk) (fun k hk => gM_R hk)
    exact .inr ⟨w, τ, τm, 1101, 3, .inl ⟨rfl, rfl⟩, by rw [a1]; rfl, fun μ' hm => ⟨μ', by rw [a2]; exact hm, mf_rfl⟩, CL_fr H a3 V' wle_rfl (cds_g a4) a4 a5 hp hq⟩
  · have V' := SV_fr H.2.1 a6 a8 a9 (fun k hk => gX_R hk) (fun k hk => gM_R hk)
    obtain ⟨l1, l2⟩ := LKg (w := w) (FL_LK H.2.2) a8 a9
    exact .inl ⟨w', τ, τm, 3, v', 448, by rw [a1]; rfl, fun μ' hm => ⟨μ', by rw [a2]; exact hm, mf_rfl⟩, by decide, a6, CL_fr H a5 V' a6 (cds_g a8) a8 a9 hp hq, a3, by rw [a4, l2], mf_F a8 (gX_f (.inr rfl)), g154 a9⟩
/-- a message with a type's name -/
theorem faultT_OE {e : EV} (E : EVok e) {w : WD} {xf : Int32 → List Int32} {c d : Int32} {rest : PL2} {ct : CT} {σ μ : mS} (H : CL e w xf c d rest ct σ μ) {tx ty : Int32} {vx vm : Int64} (v : VV w tx vx ty vm) (h8 : tx ≠ 8) {t u t' u' : Nat} (ht : t < 141) (hu : u < 76) (he : xtx t = mtx u) (hn : (mtx u).length ≤ 100) (ht' : t' < 141) (hu' : u' < 76) (he' : xtx t' = mtx u') (hn' : (mtx u').length ≤ 100) {α : Type} : OE (α := α) e w xf c d rest ct σ μ (fun z => z) (bx (xx6_fault_2 (eN e) σ (3000 + t) tx (3000 + t')) (fun z => some (Except.error (z.1, z.2)))) (mm_faultOf (eN e) μ u ty u') := by
  have hp : ∀ k, kX k → gX k = false := fun k hk => gX_f (.inl hk)
  have hq : ∀ k, kM k → gM k = false := fun k hk => gM_k (.inl hk)
  have q : mm_faultOf (eN e) μ u ty u' = bd (mm_beginMessage (eN e) μ) (fun z1 => bd (mm_putText (eN e) z1 u) (fun z2 => bd (mm_putType (eN e) z2 ty) (fun z3 => bd (mm_putText (eN e) z3 u') (fun z4 => mb_raiseMessage (eN e) (rc_finish (eN e) 449) z4)))) := by
    have r : ∀ z, mm_raiseMessage (eN e) z = mb_raiseMessage (eN e) (rc_finish (eN e) 449) z := fun _ => rfl
    simp only [mm_faultOf, bd_id, r]
  rw [q]
  rcases faultT_2 (EV_N E) H.1 (FL_LK H.2.2) v h8 ht hu he hn ht' hu' he' hn' 449 with ⟨τ, τm, a1, a2, a3, a4, a5⟩ | ⟨τ, τm, w', v', a1, a2, a3, a4, a5, a6, a7, a8, a9⟩
  · have V' := SV_fr H.2.1 wle_rfl a4 a5 (fun k hk => gX_R hk) (fun k hk => gM_R hk)
    exact .inr ⟨w, τ, τm, 1101, 3, .inl ⟨rfl, rfl⟩, by rw [a1]; rfl, fun μ' hm => ⟨μ', by rw [a2]; exact hm, mf_rfl⟩, CL_fr H a3 V' wle_rfl (cds_g a4) a4 a5 hp hq⟩
  · have V' := SV_fr H.2.1 a6 a8 a9 (fun k hk => gX_R hk) (fun k hk => gM_R hk)
    obtain ⟨l1, l2⟩ := LKg (w := w) (FL_LK H.2.2) a8 a9
    exact .inl ⟨w', τ, τm, 3, v', 449, by rw [a1]; rfl, fun μ' hm => ⟨μ', by rw [a2]; exact hm, mf_rfl⟩, by decide, a6, CL_fr H a5 V' a6 (cds_g a8) a8 a9 hp hq, a3, by rw [a4, l2], mf_F a8 (gX_f (.inr rfl)), g154 a9⟩
