set_option maxRecDepth 20000
section
variable {ρ : Nat → Nat} {d : Nat} {Q : QT} {Γ Γ' : GH} {h h' h1 h2 : ah} {C ho k i j N M a b z s r f o c t n m kn ac : Nat} {g : HG} {v ty κ nm el : Int} {S S' S1 : SS} {X X' : X3} {Y Y' : Y3} {L : List Nat} {Pp : List (Nat × Nat)} {ws hw : List (List Int)} {l : List Int}
/-- names of sites: they are there, with letters -/
def SNL (S : SS) (ws : List (List Int)) : Prop := (∀ s : Nat, (s : Int) < S f_Md_sites 0 → S f_Md_siteKind s < 4 → S f_Md_siteMany s = 0) ∧ ∀ s : Nat, (s : Int) < S f_Md_sites 0 → (S f_Md_siteKind s = 0 ∨ S f_Md_siteKind s = 1 ∨ S f_Md_siteKind s = 5) → (0 ≤ S f_Md_siteName s ∧ S f_Md_siteName s < (ws.length : Int)) ∧ 1 ≤ (ws.getD (S f_Md_siteName s).toNat []).length ∧ ∀ i, i < (ws.getD (S f_Md_siteName s).toNat []).length → 0 ≤ (ws.getD (S f_Md_siteName s).toNat []).getD i 0 ∧ (ws.getD (S f_Md_siteName s).toNat []).getD i 0 ≤ 127
def LKE (g : HG) (hw ws : List (List Int)) (h : ah) (ho : Nat) (X : X3) (Y : Y3) (S : SS) (N M : Nat) : Prop := ∃ kn ac CK CV ca, LKP g hw ws h ho X Y S N M kn ac CK CV ca ∧ ∀ k, k < kn → S f_Md_choiceMany k ≤ 8
def SIE (g : HG) (h : ah) (C ho : Nat) (Y : Y3) (S : SS) (N M : Nat) : Prop := ∃ ea sp, SIT g h C ho Y S N M ea sp
/-- what goes by the core, but for names, sites and choices -/
def EX0 (ρ : Nat → Nat) (Γ : GH) (h : ah) (C ho : Nat) (X : X3) (Y : Y3) (S : SS) (g : HG) (N M : Nat) (hw : List (List Int)) : Prop := (HUS ρ Γ h ho S g N M hw ∧ MMO h ho g M) ∧ YHO Y ho ∧ STM ρ h ∧ (IS7 S ∧ GLY S g N) ∧ (ho = C + 6 ∨ ho = C + 19) ∧ (∀ i, i < 4 → X 98 f_Lookup_asked i = S f_Md_asked i) ∧ (∀ i, i < 400 → X 32 f_Machine_marks i = 0) ∧ (X 53 f_Found_isText 0 = 0 ∨ X 53 f_Found_isText 0 = 1) ∧ S f_Md_wrong 0 = 0
def EXT (ρ : Nat → Nat) (Γ : GH) (h : ah) (C ho : Nat) (X : X3) (Y : Y3) (S : SS) (g : HG) (N M : Nat) (hw ws : List (List Int)) : Prop := EX0 ρ Γ h C ho X Y S g N M hw ∧ (NMR h C S ws ∧ SNL S ws) ∧ SIE g h C ho Y S N M ∧ EVS g S ws ∧ LKE g hw ws h ho X Y S N M
theorem gD_ap (hk : k < ws.length) : (ws ++ [l]).getD k [] = ws.getD k [] := by
  simp [List.getD, List.getElem?_append_left hk]
theorem SNL.snw (H : SNL S ws) : SNW S ws := fun s hs k => (H.2 s hs k).1
theorem SNL.ex (H : SNL S ws) (e : EXS [f_Md_sites, f_Md_siteKind, f_Md_siteName, f_Md_siteMany] S S') : SNL S' ws := ⟨fun s hs k => by
  rw [e _ (by decide)] at hs
  rw [e f_Md_siteKind (by decide)] at k
  rw [e f_Md_siteMany (by decide)]
  exact H.1 s hs k, fun s hs k => by
  rw [e _ (by decide)] at hs
  rw [e f_Md_siteKind (by decide)] at k
  rw [e f_Md_siteName (by decide)]
  exact H.2 s hs k⟩
theorem SNL.app (H : SNL S ws) : SNL S (ws ++ [l]) := ⟨H.1, fun s hs k => by
  obtain ⟨⟨a1, a2⟩, a3, a4⟩ := H.2 s hs k
  have e : (ws ++ [l]).getD (S f_Md_siteName s).toNat [] = ws.getD (S f_Md_siteName s).toNat [] := by
    exact gD_ap (by omega)
  rw [e]
  exact ⟨⟨a1, by rw [List.length_append]; omega⟩, a3, a4⟩⟩
/-- a site's name, by letters -/
theorem SNL.nmt (H : SNL S ws) (NM : NMR h C S ws) (hs : (s : Int) < S f_Md_sites 0) (k : S f_Md_siteKind s = 0 ∨ S f_Md_siteKind s = 1 ∨ S f_Md_siteKind s = 5) : ∃ q : Nat, S f_Md_siteName s = (q : Int) ∧ q < ws.length ∧ NMT S q (ws.getD q []) ∧ 1 ≤ (ws.getD q []).length := by
  obtain ⟨⟨a1, a2⟩, a3, a4⟩ := H.2 s hs k
  obtain ⟨-, -, n1, n2, n3⟩ := NM
  obtain ⟨b1, b2, b3⟩ := n3 (S f_Md_siteName s).toNat (by omega)
  exact ⟨(S f_Md_siteName s).toNat, by omega, by omega, ⟨by omega, b2, b1, b3, a4⟩, a3⟩
theorem EKP.fr (H : HCX ρ h ho g N M hw) (G : AC h C) (F : FC h C) (fr : Fr L Pp z s h h') (d1 : DJ [f_Heap_things, f_Heap_things + 1, f_Heap_shapes, f_Heap_shapes + 1, f_Machine_functions, f_Machine_functions + 1, f_Host_types, f_Host_types + 1, f_Host_members, f_Host_members + 1] L Pp) (p0 : ∀ y, (0, y) ∉ Pp) (e : EXS [f_Md_things, f_Md_shapes, f_Md_functions, f_Md_thingKind] S S') : EKP h C ho S N M h' S' := by
  have hh := H.hh
  have gz := G.1
  have ar := fun {f x y : Nat} (ow : own f) (hx : x < hz h) (e : hR h f x = y) (h0 : y ≠ 0) (n1 : ¬ okW L Pp f x) (n2 : ¬ okW L Pp (f + 1) x) => (fr.ar G.2.1 ow hx e h0 (fun c => c.elim n1 n2) (p0 _)).2.2
  refine ⟨fun k _ => ar (f := f_Heap_things) (x := C + 50) (by unfold own; decide) (by omega) F.2.2.1.2.1 (by omega) (d1.w (by decide)) (d1.w (by decide)) k, fun k _ => ar (f := f_Heap_shapes) (x := C + 50) (by unfold own; decide) (by omega) F.2.2.1.2.2.1 (by omega) (d1.w (by decide)) (d1.w (by decide)) k, fun k _ => ar (f := f_Machine_functions) (x := C + 32) (by unfold own; decide) (by omega) F.2.1.2.2.2.2.2.2.2.1 (by omega) (d1.w (by decide)) (d1.w (by decide)) k, fun k _ => ar (f := f_Host_types) (x := ho) (by unfold own; decide) hh.2.1 hh.2.2.1 (by omega) (d1.w (by decide)) (d1.w (by decide)) k, fun k _ => ar (f := f_Host_members) (x := ho) (by unfold own; decide) hh.2.1 hh.2.2.2.1 (by omega) (d1.w (by decide)) (d1.w (by decide)) k, Int.le_of_eq (e _ (by decide) _).symm, Int.le_of_eq (e _ (by decide) _).symm, Int.le_of_eq (e _ (by decide) _).symm, fun k _ => e _ (by decide) k⟩
/-- after a step -/
theorem EKP.gro (H : HCX ρ h ho g N M hw) (G : AC h C) (g1 : GRO Γ Γ' h h' C S S') (bd : CHG S S' ∧ ∀ s : Nat, (s : Int) < S f_Md_shapes 0 → hB h' (C + 52) s = hB h (C + 52) s) (fr : Fr L Pp z s h h') (d1 : DJ [f_Host_types, f_Host_types + 1, f_Host_members, f_Host_members + 1] L Pp) (p0 : ∀ y, (0, y) ∉ Pp) : EKP h C ho S N M h' S' := by
  have hh := H.hh
  have ar := fun {f x y : Nat} (ow : own f) (hx : x < hz h) (e : hR h f x = y) (h0 : y ≠ 0) (n1 : ¬ okW L Pp f x) (n2 : ¬ okW L Pp (f + 1) x) => (fr.ar G.2.1 ow hx e h0 (fun c => c.elim n1 n2) (p0 _)).2.2
  obtain ⟨⟨a1, a2⟩, -, ⟨c1, c2⟩, -⟩ := g1
  exact ⟨fun k hk => (c2 k hk).2, bd.2, fun k hk => (a2 k hk).2.1, fun k _ => ar (f := f_Host_types) (x := ho) (by unfold own; decide) hh.2.1 hh.2.2.1 (by omega) (d1.w (by decide)) (d1.w (by decide)) k, fun k _ => ar (f := f_Host_members) (x := ho) (by unfold own; decide) hh.2.1 hh.2.2.2.1 (by omega) (d1.w (by decide)) (d1.w (by decide)) k, c1, bd.1.2.1.1, a1, fun k hk => (c2 k hk).1⟩
theorem HUS.mvp (U : HUS ρ Γ h ho S g N M hw) (ij : INJ h) (g1 : GRO Γ Γ' h h' C S S') (fr : Fr L Pp z s h h') (H1 : HCX ρ h' ho g N M hw) (dd : DJ LHU L Pp) (p0 : ∀ y, (0, y) ∉ Pp) (es : EXS [f_Md_staticType, f_Md_staticValue] S S') : HUS ρ Γ' h' ho S' g N M hw ∧ lyc h' ho N = lyc h ho N := by
  obtain ⟨H0, V, LM, W, l4⟩ := U
  have hh := H0.hh
  have s2 := fr.ar ij (f := f_Host_types) (x := ho) (y := ho + 2) (by unfold own; decide) hh.2.1 hh.2.2.1 (by omega) (fun c => c.elim (dd.w (by decide)) (dd.w (by decide))) (p0 _)
  have s3 := fr.ar ij (f := f_Host_members) (x := ho) (y := ho + 3) (by unfold own; decide) hh.2.1 hh.2.2.2.1 (by omega) (fun c => c.elim (dd.w (by decide)) (dd.w (by decide))) (p0 _)
  have rl : ∀ c, c < N → hR h' f_HostType_layout (hB h' (ho + 2) c) = hR h f_HostType_layout (hB h (ho + 2) c) := fun c hc => by
    obtain ⟨⟨y1, y1', y0⟩, -⟩ := H0.tp hc
    rw [s2.2.2, fr.R y1' (by decide) (dd.w (by decide))]
  refine ⟨⟨H1, fun c hc => ?_, fun c hc => ?_, W, l4⟩, lyc_e rl⟩
  · obtain ⟨⟨y1, y1', y0⟩, -⟩ := H0.tp hc
    obtain ⟨⟨a1, a2, a3⟩, ⟨b1, b2, b3⟩, v1⟩ := V c hc
    have rW := fr.R y1' (f := f_HostType_words) (by decide) (dd.w (by decide))
    have rT := fr.R y1' (f := f_HostType_tags) (by decide) (dd.w (by decide))
    have sW := fr.ar ij (f := f_HostType_words) (by unfold own; decide) y1' rfl a1 (fun c => c.elim (dd.w (by decide)) (dd.w (by decide))) (p0 _)
    have sT := fr.ar ij (f := f_HostType_tags) (by unfold own; decide) y1' rfl b1 (fun c => c.elim (dd.w (by decide)) (dd.w (by decide))) (p0 _)
    have zW := ij.1 _ _ y1' (show own f_HostType_words by unfold own; decide)
    have zT := ij.1 _ _ y1' (show own f_HostType_tags by unfold own; decide)
    rw [s2.2.2, rW, rT, fr.K zW, fr.K zT, sW.1, sT.1]
    refine ⟨⟨a1, a2, a3⟩, ⟨b1, b2, b3⟩, fun j hj => ?_⟩
    rw [sW.2.1, sT.2.1, es _ (by decide), es _ (by decide)]
    exact g1.vr (v1 j hj)
  · rw [rl c hc]
    rcases LM c hc with e | ⟨⟨a1, a2, a3, a4⟩, a5, a6⟩
    · exact Or.inl e
    · have sa := fr.ar0 (y := hR h f_HostType_layout (hB h (ho + 2) c)) a3 a2 (p0 _) a4
      refine Or.inr ⟨⟨by rw [fr.K a3]; exact a1, a2, fr.lt a3, ?_⟩, by rw [sa.1]; exact a5, fun i hi => by rw [sa.2.2, s3.2.2]; exact a6 i hi⟩
      exact UNO.fr a4 a3 a2 fr
theorem MMO.mvp (K : MMO h ho g M) (U : HUS ρ Γ h ho S g N M hw) (W : HWF g N M) (ij : INJ h) (fr : Fr L Pp z s h h') (dd : DJ (LKN ++ [f_Host_members, f_Host_members + 1]) L Pp) (p0 : ∀ y, (0, y) ∉ Pp) : MMO h' ho g M := by
  have hh := U.1.hh
  have s3 := fr.ar ij (f := f_Host_members) (x := ho) (y := ho + 3) (by unfold own; decide) hh.2.1 hh.2.2.2.1 (by omega) (fun c => c.elim (dd.w (by decide)) (dd.w (by decide))) (p0 _)
  exact K.fr U.1 fr ij (fun a => ⟨dd.w (by decide), dd.w (by decide), dd.w (by decide)⟩) (fun j _ => s3.2.2 j) (U.wf W)
def LCF : List Nat := [f_Choice_type, f_Choice_kind, f_Choice_isStatic, f_Choice_name, f_Choice_setter, f_Choice_classes, f_Choice_member, f_Choice_why, f_Choice_next]
theorem LKE.mv (H : LKE g hw ws h ho X Y S N M) (HX : HCX ρ h ho g N M hw) (ij : INJ h) (fr : Fr L Pp z s h h') (d1 : DJ (LCF ++ [f_Host_types, f_Host_types + 1, f_Host_members, f_Host_members + 1]) L Pp) (p0 : ∀ y, (0, y) ∉ Pp) (es : EXS LCH3 S S') (ex : EXX [f_Lookup_kept, f_Lookup_allKept, f_Lookup_workedOut] X X') (ey : ∀ b, Y' 98 f_Lookup_choices b = Y 98 f_Lookup_choices b) : LKE g hw ws h' ho X' Y' S' N M := by
  obtain ⟨kn, ac, CK, CV, ca, K, m8⟩ := H
  have hh := HX.hh
  have ar := fun {f x y : Nat} (ow : own f) (hx : x < hz h) (e : hR h f x = y) (h0 : y ≠ 0) (n1 : ¬ okW L Pp f x) (n2 : ¬ okW L Pp (f + 1) x) => (fr.ar ij ow hx e h0 (fun c => c.elim n1 n2) (p0 _)).2.2
  have K2 := K.1.fr (X' := X') (Y' := Y') fr (d1.sb (by decide)) p0 (fun k _ => ar (f := f_Host_types) (x := ho) (by unfold own; decide) hh.2.1 hh.2.2.1 (by omega) (d1.w (by decide)) (d1.w (by decide)) k) (fun k _ => ar (f := f_Host_members) (x := ho) (by unfold own; decide) hh.2.1 hh.2.2.2.1 (by omega) (d1.w (by decide)) (d1.w (by decide)) k) (ex _ (by decide) _ _) (ex _ (by decide) _ _) ey
  obtain ⟨A, B⟩ := K.es m8 es K2 (ex _ (by decide) _ _)
  exact ⟨kn, ac, CK, CV, ca, A, B⟩
theorem LKE.app (H : LKE g hw ws h ho X Y S N M) : LKE g hw (ws ++ [l]) h ho X Y S N M := by
  obtain ⟨kn, ac, CK, CV, ca, ⟨K1, K2, K3, K4, K5⟩, m8⟩ := H
  refine ⟨kn, ac, CK, CV, ca, ⟨K1, K2, K3, fun k hk => (K4 k hk).keep (fun _ _ => rfl) (fun _ _ => rfl) (fun ts e => by have := m8 k hk; omega) (fun a ha => ?_), K5⟩, m8⟩
  exact ⟨by rw [List.length_append]; omega, gD_ap ha⟩
theorem SIE.ext (H : SIE g h C ho Y S N M) (G : INJ h) (F : FC h C) (cz : C + 57 < hz h) (K : EKP h C ho S N M h' S') (fr : Fr L Pp z s h h') (d1 : DJ LZA L Pp) (p0 : ∀ y, (0, y) ∉ Pp) (es : EXS LSS S S') (ey : Y' 55 f_Spare_free 0 = Y 55 f_Spare_free 0) : SIE g h' C ho Y' S' N M := by
  obtain ⟨ea, sp, A⟩ := H
  exact ⟨ea, sp, A.ext G F cz K fr d1 p0 es ey⟩
/-- the host stays where names grow -/
theorem HCX.frw (H : HCX ρ h ho g N M hw) (hh : ho = C + 6 ∨ ho = C + 19) (fr : Fr LCC (WP (C + 34)) z s h h') : HCX ρ h' ho g N M hw := by
  obtain ⟨g', e, b1, b2, b3, b4, A⟩ := H
  have hP : ∀ q, q ∈ WP (C + 34) → q.2 = C + 34 := fun q hq => by
    simp only [WP, List.mem_cons, List.not_mem_nil, or_false] at hq
    rcases hq with e | e | e | e | e | e | e <;> subst e <;> rfl
  have nw : ∀ f x, LCC.elem f = false → x ≠ C + 34 → ¬ okW LCC (WP (C + 34)) f x := fun f x h1 h2 c => by
    have a1 : f ∉ LCC := by simpa using h1
    rcases c with c | c
    · exact a1 c
    · exact h2 (hP _ c)
  have nc : ∀ f x, LCC.elem f = false → LCC.elem (f + 1) = false → x ≠ C + 34 → ¬ okC LCC (WP (C + 34)) f x := fun f x h1 h1' h2 c => c.elim (nw f x h1 h2) (nw (f + 1) x h1' h2)
  refine ⟨g', e, b1, b2, b3, b4, A.frm2 fr (fun f hm a => nokAll (L := LCC) (P := WP (C + 34)) (fs := ftyp ++ fmem) rfl f hm a) (fun f hm => ?_) ⟨nc _ _ rfl rfl (by omega), nc _ _ rfl rfl (by omega)⟩ (nP0 rfl) (fun f hm => ?_)⟩
  · have := List.all_eq_true.mp (show fhos.all (fun f => !(LCC.elem f)) = true from rfl) f hm
    simp only [Bool.not_eq_true'] at this
    exact nw f ho this (by omega)
  · have := List.all_eq_true.mp (show [f_Words_most, f_Words_mostBytes, f_Words_many, f_Words_used, f_Words_bytes, f_Words_from, f_Words_size, f_Words_next, f_Words_heads].all (fun f => !(LCC.elem f) && !(LCC.elem (f + 1))) = true from rfl) f hm
    simp only [Bool.and_eq_true, Bool.not_eq_true'] at this
    exact nc f (ho + 4) this.1 this.2 (by omega)
theorem EX0.mv (H : EX0 ρ Γ h C ho X Y S g N M hw) (U : HUS ρ Γ' h' ho S' g N M hw) (MM : MMO h' ho g M) (fr : Fr L Pp z s h h') (p0 : ∀ y, (0, y) ∉ Pp) (c : CHG S S') (ey : YHO Y' ho) (ea : ∀ i, i < 4 → X' 98 f_Lookup_asked i = S' f_Md_asked i) (em : EXX [f_Machine_marks] X X') (it : X' 53 f_Found_isText 0 = 0 ∨ X' 53 f_Found_isText 0 = 1) (ew : S' f_Md_wrong 0 = S f_Md_wrong 0) : EX0 ρ Γ' h' C ho X' Y' S' g N M hw := by
  obtain ⟨-, -, a3, ⟨a4, a5⟩, a6, -, a8, -, a10⟩ := H
  exact ⟨⟨U, MM⟩, ey, a3.fr fr p0, ⟨a4.chg c, fun k hk => by rw [c.2.2.2.2.2.2]; exact a5 k hk⟩, a6, ea, fun i hi => by rw [em _ (by decide)]; exact a8 i hi, it, by rw [ew]; exact a10⟩
end
