/-! LAYER 2: errors in the top call -/
/-- what an error needs -/
def UK (e : EV) (w : WD) (xf : Int32 → List Int32) (c d : Int32) (rest : PL2) (σ μ : mS) : Prop := ME (eS e) (eK e) (eQ e) w xf c d rest σ μ ∧ SV e w σ μ ∧ UN (eS e) w σ (mff μ) (sI μ 141) (sJ μ 142) (btO d) (sI μ 162 d) (sI μ 161 d) (xf c) (sF μ 154) ∧ LK σ (mff μ) (sI μ 162 d) (xf c) (sF μ 154)
theorem UK_fr {P Q : Nat → Bool} {e : EV} {w w' : WD} {xf : Int32 → List Int32} {c d : Int32} {rest : PL2} {σ μ τ τm : mS} (H : UK e w xf c d rest σ μ) (M : ME (eS e) (eK e) (eQ e) w' xf c d rest τ τm) (V : SV e w' τ τm) (wl : wle w w') (hc : cds w σ τ) (fr : m_fr P σ τ) (frm : m_fr Q μ τm) (hp : ∀ k, kX k → P k = false) (hq : ∀ k, kM k → Q k = false) : UK e w' xf c d rest τ τm := by
  have kb' := BC_kb H.1.2.2.2.2.2.1
  simp only at kb'
  have cl := ME_calls H.1
  have e154 : sF τm 154 = sF μ 154 := mf_F frm (hq 154 ⟨by omega, by omega⟩)
  have e162 : sI τm 162 d = sI μ 162 d := mf_I frm (hq 162 ⟨by omega, by omega⟩)
  have e161 : sI τm 161 d = sI μ 161 d := mf_I frm (hq 161 ⟨by omega, by omega⟩)
  refine ⟨M, V, ?_, ?_⟩
  · rw [e154, e162, e161]
    exact UNr_fr H.2.2.1 ⟨kb'.1, Int32.le_trans cl.2.1 (by decide), kb'.2.2.1, kb'.2.2.2.1⟩ wl hc fr frm hp hq
  · rw [e154, e162]
    exact LK_fr fr frm hp hq hc.1 H.2.2.2
/-- an error, or a stop, in the top call -/
def UO {α β : Type} (e : EV) (w : WD) (xf : Int32 → List Int32) (c d : Int32) (rest : PL2) (σ μ : mS) (h : mS → β) (ox : Option (Except (Nat × mS) α)) (om : Option β) : Prop :=
  (∃ w' τ τm ty v dd, ox = some (.error (1107, τ)) ∧ (∀ μ', (rc_finish (eN e) dd).2.2.1 τm ty v = some μ' → ∃ μ2, om = some (h μ2) ∧ m_fr (fun k => k == 227) μ' μ2) ∧ 440 ≤ dd ∧ wle w w' ∧ UK e w' xf c d rest τ τm ∧ TH w' τ ty v ∧ sF τ 405 = lnH τ (xf c) ∧ sF τ 396 = sF σ 396 ∧ sF τm 154 = sF μ 154)
  ∨ (∃ w' τ τm a why, ((a = 1101 ∧ why = 3) ∨ (a = 1116 ∧ why = 2)) ∧ ox = some (.error (a, τ)) ∧ (∀ μ', mm_breakOff (eN e) τm why = some μ' → ∃ μ2, om = some (h μ2) ∧ m_fr tK μ' μ2) ∧ UK e w' xf c d rest τ τm)
theorem UO_bx {α γ β : Type} {e : EV} {w : WD} {xf : Int32 → List Int32} {c d : Int32} {rest : PL2} {σ μ : mS} {h : mS → β} {ox : Option (Except (Nat × mS) α)} {om : Option β} {f : α → Option (Except (Nat × mS) γ)} (H : UO e w xf c d rest σ μ h ox om) : UO e w xf c d rest σ μ h (bx ox f) om := by
  rcases H with ⟨w', τ, τm, ty, v, dd, a1, a2⟩ | ⟨w', τ, τm, a, why, a0, a1, a2⟩
  · exact .inl ⟨w', τ, τm, ty, v, dd, by rw [a1]; rfl, a2⟩
  · exact .inr ⟨w', τ, τm, a, why, a0, by rw [a1]; rfl, a2⟩
theorem UO_bd {α β γ : Type} {e : EV} {w : WD} {xf : Int32 → List Int32} {c d : Int32} {rest : PL2} {σ μ : mS} {h : mS → β} {h' : mS → γ} {ox : Option (Except (Nat × mS) α)} {om : Option β} {k : β → Option γ} (H : UO e w xf c d rest σ μ h ox om) (hk : ∀ z, k (h z) = some (h' z)) : UO e w xf c d rest σ μ h' ox (bd om k) := by
  rcases H with ⟨w', τ, τm, ty, v, dd, a1, a2, a3⟩ | ⟨w', τ, τm, a, why, a0, a1, a2, a3⟩
  · refine .inl ⟨w', τ, τm, ty, v, dd, a1, fun μ' hm => ?_, a3⟩
    obtain ⟨μ2, b1, b2⟩ := a2 μ' hm
    exact ⟨μ2, by rw [b1]; exact hk μ2, b2⟩
  · refine .inr ⟨w', τ, τm, a, why, a0, a1, fun μ' hm => ?_, a3⟩
    obtain ⟨μ2, b1, b2⟩ := a2 μ' hm
    exact ⟨μ2, by rw [b1]; exact hk μ2, b2⟩
theorem UO_wl {α β : Type} {e : EV} {w w1 : WD} {xf : Int32 → List Int32} {c d : Int32} {rest : PL2} {σ μ σ1 μ1 : mS} {h : mS → β} {ox : Option (Except (Nat × mS) α)} {om : Option β} (H : UO e w1 xf c d rest σ1 μ1 h ox om) (wl : wle w w1) (e1 : sF σ1 396 = sF σ 396) (e2 : sF μ1 154 = sF μ 154) : UO e w xf c d rest σ μ h ox om := by
  rcases H with ⟨w', τ, τm, ty, v, dd, a1, a2, a3, a4, a5, a6, a7, a8, a9⟩ | h
  · exact .inl ⟨w', τ, τm, ty, v, dd, a1, a2, a3, wle_tr wl a4, a5, a6, a7, a8.trans e1, a9.trans e2⟩
  · exact .inr h
theorem UK_b {e : EV} {w : WD} {xf : Int32 → List Int32} {c d : Int32} {rest : PL2} {σ μ : mS} (H : UK e w xf c d rest σ μ) : 0 ≤ (sF μ 154).toInt ∧ (sF μ 154).toInt ≤ 200 := by
  have kb' := BC_kb H.1.2.2.2.2.2.1
  simp only at kb'
  have cl := (ME_calls H.1).2.1
  have l := LK_len H.2.2.2
  have k0 := kb'.1
  rw [tI_le] at cl k0
  have z : (0 : Int32).toInt = 0 := rfl
  have z2 : (200 : Int32).toInt = 200 := rfl
  omega
theorem UO_G2 {e : EV} (E : EVok e) {M : Nat} {F n0 : Int32} (RA : RAst e M F n0 200) {w : WD} {xf : Int32 → List Int32} {c d : Int32} {rest : PL2} {σ μ : mS} {ox : Option (Except (Nat × mS) mS)} {om : Option mS} (H : UO e w xf c d rest σ μ (fun z => z) ox om) (hF : sF σ 396 = F) (hn0 : sF μ 154 - 1 ≤ n0) : G2 e 1000 (M + 1) ox om := by
  have hE := E.1
  rcases H with ⟨w', τ, τm, ty, v, dd, a1, a2, a3, a4, a5, a6, a7, a8, a9⟩ | ⟨w', τ, τm, a, why, a0, a1, a2, a3⟩
  · obtain ⟨b1, b3⟩ := UK_b a5
    obtain ⟨cc, hcc⟩ : ∃ cc : Nat, (sF τm 154).toInt = cc := ⟨(sF τm 154).toInt.toNat, by omega⟩
    obtain ⟨dd, rfl⟩ : ∃ i, dd = i + 1 := ⟨dd - 1, by omega⟩
    obtain ⟨rx, μ', r1, r2, r3⟩ := RA w' xf c d rest τ τm ty v dd 999 b3 a5.1 a5.2.1 a5.2.2.1 a5.2.2.2 a6 a7 (a8.trans hF) (by rw [a9]; exact hn0) (by omega) (by omega) (by omega)
    obtain ⟨μ2, m1, m2⟩ := a2 μ' (r1 (eN e) (by omega))
    have ce : CE e (999 + 1) (M + 1) τ rx := CE_of (cl := cc) (fun nn k n' h1 h2 h3 => r2 nn k n' (by omega) h2 h3) (by omega)
    exact ⟨rx, μ2, m1, by rw [a1]; exact XE_br ce (by omega), by rw [a1]; exact UE_br ce, MF_27 r3 m2⟩
  · obtain ⟨rx, μ', s1, s2, s3, s4⟩ := stop_2 E a3.1 a3.2.1 a3.2.2.2 a0
    obtain ⟨μ2, m1, m2⟩ := a2 μ' s1
    have aa : a = 1101 ∨ a = 1116 := a0.imp And.left And.left
    exact ⟨rx, μ2, m1, by rw [a1]; exact XE_st s2 aa, by rw [a1]; exact UE_st s2 aa s3, MT_F (MT_t (s4 _) m2)⟩
/-- fault(message) -/
theorem fault_UO {e : EV} (E : EVok e) {w : WD} {xf : Int32 → List Int32} {c d : Int32} {rest : PL2} {σ μ : mS} (H : UK e w xf c d rest σ μ) {t tm : Nat} (ht : t < 141) (htm : tm < 76) (he : xtx t = mtx tm) (hlen : (mtx tm).length ≤ 100) {α : Type} : UO (α := α) e w xf c d rest σ μ (fun z => z) (bx (xx6_fault (eN e) σ (3000 + t)) (fun z => some (Except.error (z.1, z.2)))) (mm_fault_2 (eN e) μ tm) := by
  have hp : ∀ k, kX k → gX k = false := fun k hk => gX_f (.inl hk)
  have hq : ∀ k, kM k → gM k = false := fun k hk => gM_k (.inl hk)
  have q : mm_fault_2 (eN e) μ tm = (rc_finish (eN e) (448 + 2)).1 μ tm := rfl
  rw [q]
  rcases fault_2 (EV_N E) H.1 H.2.2.2 ht htm he hlen 448 with ⟨τ, τm, a1, a2, a3, a4, a5⟩ | ⟨τ, τm, w', v', a1, a2, a3, a4, a5, a6, a7, a8, a9⟩
  · have V' := SV_fr H.2.1 wle_rfl a4 a5 (fun k hk => gX_R hk) (fun k hk => gM_R hk)
    exact .inr ⟨w, τ, τm, 1101, 3, .inl ⟨rfl, rfl⟩, by rw [a1]; rfl, fun μ' hm => ⟨μ', by rw [a2]; exact hm, mf_rfl⟩, UK_fr H a3 V' wle_rfl (cds_g a4) a4 a5 hp hq⟩
  · have V' := SV_fr H.2.1 a6 a8 a9 (fun k hk => gX_R hk) (fun k hk => gM_R hk)
    obtain ⟨l1, l2⟩ := LKg (w := w) H.2.2.2 a8 a9
    exact .inl ⟨w', τ, τm, 3, v', 448, by rw [a1]; rfl, fun μ' hm => ⟨μ', by rw [a2]; exact hm, mf_rfl⟩, by decide, a6, UK_fr H a5 V' a6 (cds_g a8) a8 a9 hp hq, a3, by rw [a4, l2], mf_F a8 (gX_f (.inr rfl)), g154 a9⟩
/-- a message with a type's name -/
theorem faultT_UO {e : EV} (E : EVok e) {w : WD} {xf : Int32 → List Int32} {c d : Int32} {rest : PL2} {σ μ : mS} (H : UK e w xf c d rest σ μ) {tx ty : Int32} {vx vm : Int64} (v : VV w tx vx ty vm) {t u t' u' : Nat} (ht : t < 141) (hu : u < 76) (he : xtx t = mtx u) (hn : (mtx u).length ≤ 100) (ht' : t' < 141) (hu' : u' < 76) (he' : xtx t' = mtx u') (hn' : (mtx u').length ≤ 100) {α : Type} : UO (α := α) e w xf c d rest σ μ (fun z => z) (bx (xx6_fault_2 (eN e) σ (3000 + t) tx (3000 + t')) (fun z => some (Except.error (z.1, z.2)))) (mm_faultOf (eN e) μ u ty u') := by
  have hp : ∀ k, kX k → gX k = false := fun k hk => gX_f (.inl hk)
  have hq : ∀ k, kM k → gM k = false := fun k hk => gM_k (.inl hk)
  have q : mm_faultOf (eN e) μ u ty u' = bd (mm_beginMessage (eN e) μ) (fun z1 => bd (mm_putText (eN e) z1 u) (fun z2 => bd (mm_putType (eN e) z2 ty) (fun z3 => bd (mm_putText (eN e) z3 u') (fun z4 => mb_raiseMessage (eN e) (rc_finish (eN e) 449) z4)))) := by
    have r : ∀ z, mm_raiseMessage (eN e) z = mb_raiseMessage (eN e) (rc_finish (eN e) 449) z := fun _ => rfl
    simp only [mm_faultOf, bd_id, r]
  rw [q]
  rcases faultT_2 (EV_N E) H.1 H.2.2.2 v (VV_8 v) ht hu he hn ht' hu' he' hn' 449 with ⟨τ, τm, a1, a2, a3, a4, a5⟩ | ⟨τ, τm, w', v', a1, a2, a3, a4, a5, a6, a7, a8, a9⟩
  · have V' := SV_fr H.2.1 wle_rfl a4 a5 (fun k hk => gX_R hk) (fun k hk => gM_R hk)
    exact .inr ⟨w, τ, τm, 1101, 3, .inl ⟨rfl, rfl⟩, by rw [a1]; rfl, fun μ' hm => ⟨μ', by rw [a2]; exact hm, mf_rfl⟩, UK_fr H a3 V' wle_rfl (cds_g a4) a4 a5 hp hq⟩
  · have V' := SV_fr H.2.1 a6 a8 a9 (fun k hk => gX_R hk) (fun k hk => gM_R hk)
    obtain ⟨l1, l2⟩ := LKg (w := w) H.2.2.2 a8 a9
    exact .inl ⟨w', τ, τm, 3, v', 449, by rw [a1]; rfl, fun μ' hm => ⟨μ', by rw [a2]; exact hm, mf_rfl⟩, by decide, a6, UK_fr H a5 V' a6 (cds_g a8) a8 a9 hp hq, a3, by rw [a4, l2], mf_F a8 (gX_f (.inr rfl)), g154 a9⟩
/-- no room -/
theorem room_UO {α β : Type} {e : EV} {w : WD} {xf : Int32 → List Int32} {c d : Int32} {rest : PL2} {σ μ τ τm : mS} (H : UK e w xf c d rest τ τm) {h : mS → β} {ox : Option (Except (Nat × mS) α)} {om : Option β} (h1 : ox = some (.error (1101, τ))) (h2 : ∀ μ', mm_breakOff (eN e) τm 3 = some μ' → ∃ μ2, om = some (h μ2) ∧ m_fr tK μ' μ2) : UO e w xf c d rest σ μ h ox om := .inr ⟨w, τ, τm, 1101, 3, .inl ⟨rfl, rfl⟩, h1, h2, H⟩
/-- lines are alike -/
def lin (e : EV) (p q : Int32) : Prop := sI (eσ e) 257 p = sI (eμ e) 74 q ∧ 0 < sI (eμ e) 74 q ∧ sI (eμ e) 70 q ≠ 28
theorem PT_UK {e : EV} {w : WD} {xf : Int32 → List Int32} {c d : Int32} {rest : PL2} {f : Int32} {fl : List Int32} {ρ : List Int32} {m : Int32} {g p q F n : Int32} {σ μ : mS} (A : PT e w xf c d rest f fl ρ m g p q F n σ μ) (L : LE σ (mff μ) f (n - 1)) : UK e w xf c d rest σ μ := by
  obtain ⟨⟨⟨H1, V, hf, hk, hB, FCx, FLx⟩, T⟩, a1, a2, a3, a4, a5⟩ := A
  rw [← a5] at L
  refine ⟨H1, V, ?_, ?_⟩
  · rw [hf]
    exact ⟨hk, FCx.1, .inl ⟨FCx.2.1, FCx.2.2.1, FL_UN FLx⟩⟩
  · rw [hf]
    exact ⟨hk, FCx.1, .inr ⟨FCx.2.1, FCx.2.2.1, L⟩, FL_LK FLx⟩
/-- where the line is at hand -/
theorem PT_LE {e : EV} {w : WD} {xf : Int32 → List Int32} {c d : Int32} {rest : PL2} {f : Int32} {fl : List Int32} {ρ : List Int32} {m : Int32} {g p q F n : Int32} {σ μ : mS} (A : PT e w xf c d rest f fl ρ m g p q F n σ μ) {op k : Int32} (ho : opx e p op) (L : lin e p q) (wd : Int32) : LE (xP σ f p wd) (mff (actP μ (n - 1) q)) f (n - 1) := by
  have f0 := (MR0_f A.1.1).1.1
  have b := (MR0_f A.1.1).2.2.2.1
  rw [A.2.2.2.2.2] at b
  have b' := at_1 b.1 b.2
  have e345 := (PT_sx A wd).2
  have e8 : mff (actP μ (n - 1) q) (n - 1) 8 = sI (eμ e) 74 q := by
    show sI (actP μ (n - 1) q) 152 (n - 1) = _
    rw [actP_152 b'.1 b'.1, SV_cm (PT_V A) (by omega), SV_cm (PT_V A) (by omega), if_pos ⟨rfl, L.2.1, L.2.2⟩]
  refine ⟨by rw [e345]; exact ho.1.1, by rw [e345]; exact Int32.lt_trans ho.1.2 (by decide), ?_, by rw [e8]; exact Int32.le_of_lt L.2.1⟩
  rw [e345, e8, ← L.1]
  exact (mf_I xP_fr rfl).trans (SV_cx (PT_V A) (by omega) p)
