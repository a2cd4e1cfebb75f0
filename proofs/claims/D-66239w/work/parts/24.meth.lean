/-! 24.meth.lean.txt (printed by wip/gen/gen13.py): methods 238 .. 247 -/
set_option maxRecDepth 100000
/-! QuotaPeers$Text.<init>()V -/
def xB238_0 : List z_Op × z_Tm := ([zo_ldA 0, zo_obj, zo_ldA 0, zo_cI (40), zo_newA 80741649 40, zo_pR 1 0], zt_vret)
def xp238 : Nat → Nat := fun b => ([0] : List Nat).getD b 0
def xP238 : z_M := fun b => ([xB238_0] : List (List z_Op × z_Tm)).getD b z_dead
section
variable {d : Nat} {G : z_G} {l : Launch} {C : z_O}
theorem xb238_0 (hC : z_HC l G d z_tb C) : z_SB "QuotaPeers$Text" prog_11_method_1_code 1 true d G l C ((Option.none : Option Jvm.ClassFile.FieldType)) xp238 0 xB238_0.1 xB238_0.2 := sb_cons (n := 1) hC.1 (tz_ldA _) (so_aload_n 0 (by decide +kernel)) (sb_cons (n := 3) hC.1 (tz_obj) (so_obj w162 xo_1 xo_2 (by decide +kernel)) (sb_cons (n := 1) hC.1 (tz_ldA _) (so_aload_n 0 (by decide +kernel)) (sb_cons (n := 2) hC.1 (tz_cI _) (so_bipush (40) (40) (by decide +kernel) (by decide +kernel)) (sb_cons (n := 2) hC.1 (tz_newA _ _) (so_newB 80741649 40 rfl w173 (by decide +kernel) (by decide +kernel) (by decide +kernel) (by decide +kernel)) (sb_cons (n := 3) hC.1 (tz_pR _ _) (xpF_1_0 rfl rfl w163 (by decide +kernel)) (sb_nil (tz_vret) (st_vret rfl (by decide +kernel))))))))
theorem xm238 (hC : z_HC l G d z_tb C) : z_SM "QuotaPeers$Text" prog_11_method_1_code 1 true d G l C ((Option.none : Option Jvm.ClassFile.FieldType)) xp238 xP238 := by
  intro b
  match b with
  | 0 => exact xb238_0 hC
  | _ + 1 => exact sb_dead
end
/-! QuotaPeers$Text.clear()V -/
def xB239_0 : List z_Op × z_Tm := ([zo_ldA 0, zo_cI (0), zo_pI 1 1], zt_vret)
def xp239 : Nat → Nat := fun b => ([0] : List Nat).getD b 0
def xP239 : z_M := fun b => ([xB239_0] : List (List z_Op × z_Tm)).getD b z_dead
section
variable {d : Nat} {G : z_G} {l : Launch} {C : z_O}
theorem xb239_0 (hC : z_HC l G d z_tb C) : z_SB "QuotaPeers$Text" prog_11_method_2_code 1 false d G l C ((Option.none : Option Jvm.ClassFile.FieldType)) xp239 0 xB239_0.1 xB239_0.2 := sb_cons (n := 1) hC.1 (tz_ldA _) (so_aload_n 0 (by decide +kernel)) (sb_cons (n := 1) hC.1 (tz_cI _) (so_iconst (0) (0) (by decide +kernel) (by decide +kernel)) (sb_cons (n := 3) hC.1 (tz_pI _ _) (xp_1_1 w165 (by decide +kernel)) (sb_nil (tz_vret) (st_vret rfl (by decide +kernel)))))
theorem xm239 (hC : z_HC l G d z_tb C) : z_SM "QuotaPeers$Text" prog_11_method_2_code 1 false d G l C ((Option.none : Option Jvm.ClassFile.FieldType)) xp239 xP239 := by
  intro b
  match b with
  | 0 => exact xb239_0 hC
  | _ + 1 => exact sb_dead
end
/-! QuotaPeers$Text.add(I)V -/
def xB240_0 : List z_Op × z_Tm := ([zo_ldA 0, zo_gR 1 0, zo_ldA 0, zo_dupR, zo_gI 1 1, zo_dupx1, zo_cI (1), zo_ii ((· + ·)), zo_pI 1 1, zo_ldI 1, zo_i2b, zo_astB], zt_vret)
def xp240 : Nat → Nat := fun b => ([0] : List Nat).getD b 0
def xP240 : z_M := fun b => ([xB240_0] : List (List z_Op × z_Tm)).getD b z_dead
section
variable {d : Nat} {G : z_G} {l : Launch} {C : z_O}
theorem xb240_0 (hC : z_HC l G d z_tb C) : z_SB "QuotaPeers$Text" prog_11_method_3_code 2 false d G l C ((Option.none : Option Jvm.ClassFile.FieldType)) xp240 0 xB240_0.1 xB240_0.2 := sb_cons (n := 1) hC.1 (tz_ldA _) (so_aload_n 0 (by decide +kernel)) (sb_cons (n := 3) hC.1 (tz_gR _ _) (xg_1_0 w163 (by decide +kernel)) (sb_cons (n := 1) hC.1 (tz_ldA _) (so_aload_n 0 (by decide +kernel)) (sb_cons (n := 1) hC.1 (tz_dupR) (so_dupR (by decide +kernel)) (sb_cons (n := 3) hC.1 (tz_gI _ _) (xg_1_1 w165 (by decide +kernel)) (sb_cons (n := 1) hC.1 (tz_dupx1) (so_dupx1 (by decide +kernel)) (sb_cons (n := 1) hC.1 (tz_cI _) (so_iconst (1) (1) (by decide +kernel) (by decide +kernel)) (sb_cons (n := 1) hC.1 (tz_ii _) (so_iadd (by decide +kernel)) (sb_cons (n := 3) hC.1 (tz_pI _ _) (xp_1_1 w165 (by decide +kernel)) (sb_cons (n := 1) hC.1 (tz_ldI _) (so_iload_n 1 (by decide +kernel)) (sb_cons (n := 1) hC.1 (tz_i2b) (so_i2b (by decide +kernel)) (sb_cons (n := 1) hC.1 (tz_astB) (so_bastore (by decide +kernel)) (sb_nil (tz_vret) (st_vret rfl (by decide +kernel))))))))))))))
theorem xm240 (hC : z_HC l G d z_tb C) : z_SM "QuotaPeers$Text" prog_11_method_3_code 2 false d G l C ((Option.none : Option Jvm.ClassFile.FieldType)) xp240 xP240 := by
  intro b
  match b with
  | 0 => exact xb240_0 hC
  | _ + 1 => exact sb_dead
end
/-! QuotaPeers$Text.copy(LQuotaPeers$Text;)V -/
def xB241_0 : List z_Op × z_Tm := ([zo_ldA 0, zo_ldA 1, zo_gI 1 1, zo_pI 1 1, zo_ldA 1, zo_gR 1 0, zo_cI (0), zo_ldA 0, zo_gR 1 0, zo_cI (0), zo_ldA 0, zo_gI 1 1, zo_copy], zt_vret)
def xp241 : Nat → Nat := fun b => ([0] : List Nat).getD b 0
def xP241 : z_M := fun b => ([xB241_0] : List (List z_Op × z_Tm)).getD b z_dead
section
variable {d : Nat} {G : z_G} {l : Launch} {C : z_O}
theorem xb241_0 (hC : z_HC l G d z_tb C) : z_SB "QuotaPeers$Text" prog_11_method_4_code 2 false d G l C ((Option.none : Option Jvm.ClassFile.FieldType)) xp241 0 xB241_0.1 xB241_0.2 := sb_cons (n := 1) hC.1 (tz_ldA _) (so_aload_n 0 (by decide +kernel)) (sb_cons (n := 1) hC.1 (tz_ldA _) (so_aload_n 1 (by decide +kernel)) (sb_cons (n := 3) hC.1 (tz_gI _ _) (xg_1_1 w165 (by decide +kernel)) (sb_cons (n := 3) hC.1 (tz_pI _ _) (xp_1_1 w165 (by decide +kernel)) (sb_cons (n := 1) hC.1 (tz_ldA _) (so_aload_n 1 (by decide +kernel)) (sb_cons (n := 3) hC.1 (tz_gR _ _) (xg_1_0 w163 (by decide +kernel)) (sb_cons (n := 1) hC.1 (tz_cI _) (so_iconst (0) (0) (by decide +kernel) (by decide +kernel)) (sb_cons (n := 1) hC.1 (tz_ldA _) (so_aload_n 0 (by decide +kernel)) (sb_cons (n := 3) hC.1 (tz_gR _ _) (xg_1_0 w163 (by decide +kernel)) (sb_cons (n := 1) hC.1 (tz_cI _) (so_iconst (0) (0) (by decide +kernel) (by decide +kernel)) (sb_cons (n := 1) hC.1 (tz_ldA _) (so_aload_n 0 (by decide +kernel)) (sb_cons (n := 3) hC.1 (tz_gI _ _) (xg_1_1 w165 (by decide +kernel)) (sb_cons (n := 3) hC.1 (tz_copy) (xa_copy w513 (by decide +kernel)) (sb_nil (tz_vret) (st_vret rfl (by decide +kernel)))))))))))))))
theorem xm241 (hC : z_HC l G d z_tb C) : z_SM "QuotaPeers$Text" prog_11_method_4_code 2 false d G l C ((Option.none : Option Jvm.ClassFile.FieldType)) xp241 xP241 := by
  intro b
  match b with
  | 0 => exact xb241_0 hC
  | _ + 1 => exact sb_dead
end
/-! QuotaPeers$Text.take([BII)V -/
def xB242_0 : List z_Op × z_Tm := ([zo_ldA 0, zo_ldI 3, zo_pI 1 1, zo_ldA 1, zo_ldI 2, zo_ldA 0, zo_gR 1 0, zo_cI (0), zo_ldI 3, zo_copy], zt_vret)
def xp242 : Nat → Nat := fun b => ([0] : List Nat).getD b 0
def xP242 : z_M := fun b => ([xB242_0] : List (List z_Op × z_Tm)).getD b z_dead
section
variable {d : Nat} {G : z_G} {l : Launch} {C : z_O}
theorem xb242_0 (hC : z_HC l G d z_tb C) : z_SB "QuotaPeers$Text" prog_11_method_5_code 4 false d G l C ((Option.none : Option Jvm.ClassFile.FieldType)) xp242 0 xB242_0.1 xB242_0.2 := sb_cons (n := 1) hC.1 (tz_ldA _) (so_aload_n 0 (by decide +kernel)) (sb_cons (n := 1) hC.1 (tz_ldI _) (so_iload_n 3 (by decide +kernel)) (sb_cons (n := 3) hC.1 (tz_pI _ _) (xp_1_1 w165 (by decide +kernel)) (sb_cons (n := 1) hC.1 (tz_ldA _) (so_aload_n 1 (by decide +kernel)) (sb_cons (n := 1) hC.1 (tz_ldI _) (so_iload_n 2 (by decide +kernel)) (sb_cons (n := 1) hC.1 (tz_ldA _) (so_aload_n 0 (by decide +kernel)) (sb_cons (n := 3) hC.1 (tz_gR _ _) (xg_1_0 w163 (by decide +kernel)) (sb_cons (n := 1) hC.1 (tz_cI _) (so_iconst (0) (0) (by decide +kernel) (by decide +kernel)) (sb_cons (n := 1) hC.1 (tz_ldI _) (so_iload_n 3 (by decide +kernel)) (sb_cons (n := 3) hC.1 (tz_copy) (xa_copy w513 (by decide +kernel)) (sb_nil (tz_vret) (st_vret rfl (by decide +kernel))))))))))))
theorem xm242 (hC : z_HC l G d z_tb C) : z_SM "QuotaPeers$Text" prog_11_method_5_code 4 false d G l C ((Option.none : Option Jvm.ClassFile.FieldType)) xp242 xP242 := by
  intro b
  match b with
  | 0 => exact xb242_0 hC
  | _ + 1 => exact sb_dead
end
/-! QuotaPeers$Text.isSame(LQuotaPeers$Text;)Z -/
def xB243_0 : List z_Op × z_Tm := ([zo_ldA 0, zo_gI 1 1, zo_ldA 1, zo_gI 1 1], zt_icmp (fun x y => x = y) 1 [true, true, false, false] 2 [true, true, false, false])
def xB243_1 : List z_Op × z_Tm := ([zo_cI (1)], zt_goto 3 [true, true, false, false])
def xB243_2 : List z_Op × z_Tm := ([zo_cI (0)], zt_goto 3 [true, true, false, false])
def xB243_3 : List z_Op × z_Tm := ([zo_stI 2, zo_cI (0), zo_stI 3], zt_goto 4 [true, true, true, true])
def xB243_4 : List z_Op × z_Tm := ([zo_ldI 3, zo_ldA 0, zo_gI 1 1], zt_icmp (fun x y => y ≤ x) 10 [false, false, true, false] 5 [true, true, true, true])
def xB243_5 : List z_Op × z_Tm := ([zo_ldI 2], zt_if (fun x => x = 0) 10 [false, false, true, false] 6 [true, true, false, true])
def xB243_6 : List z_Op × z_Tm := ([zo_ldA 0, zo_gR 1 0, zo_ldI 3, zo_aldI 17, zo_ldA 1, zo_gR 1 0, zo_ldI 3, zo_aldI 17], zt_icmp (fun x y => x = y) 7 [true, true, false, true] 8 [true, true, false, true])
def xB243_7 : List z_Op × z_Tm := ([zo_cI (1)], zt_goto 9 [true, true, false, true])
def xB243_8 : List z_Op × z_Tm := ([zo_cI (0)], zt_goto 9 [true, true, false, true])
def xB243_9 : List z_Op × z_Tm := ([zo_stI 2, zo_inc 3 (1)], zt_goto 4 [true, true, true, true])
def xB243_10 : List z_Op × z_Tm := ([zo_ldI 2], zt_zret)
def xp243 : Nat → Nat := fun b => ([0, 11, 15, 16, 19, 27, 31, 46, 50, 51, 58] : List Nat).getD b 0
def xP243 : z_M := fun b => ([xB243_0, xB243_1, xB243_2, xB243_3, xB243_4, xB243_5, xB243_6, xB243_7, xB243_8, xB243_9, xB243_10] : List (List z_Op × z_Tm)).getD b z_dead
section
variable {d : Nat} {G : z_G} {l : Launch} {C : z_O}
theorem xb243_0 (hC : z_HC l G d z_tb C) : z_SB "QuotaPeers$Text" prog_11_method_6_code 4 false d G l C ((Option.some Jvm.ClassFile.FieldType.boolean)) xp243 0 xB243_0.1 xB243_0.2 := sb_cons (n := 1) hC.1 (tz_ldA _) (so_aload_n 0 (by decide +kernel)) (sb_cons (n := 3) hC.1 (tz_gI _ _) (xg_1_1 w165 (by decide +kernel)) (sb_cons (n := 1) hC.1 (tz_ldA _) (so_aload_n 1 (by decide +kernel)) (sb_cons (n := 3) hC.1 (tz_gI _ _) (xg_1_1 w165 (by decide +kernel)) (sb_nil (tz_icmp _ _ _ _ _) (st_icmp_ne (off := 7) (by decide) (by decide) (by decide +kernel))))))
theorem xb243_1 (hC : z_HC l G d z_tb C) : z_SB "QuotaPeers$Text" prog_11_method_6_code 4 false d G l C ((Option.some Jvm.ClassFile.FieldType.boolean)) xp243 11 xB243_1.1 xB243_1.2 := sb_cons (n := 1) hC.1 (tz_cI _) (so_iconst (1) (1) (by decide +kernel) (by decide +kernel)) (sb_nil (tz_goto _ _) (st_goto (off := 4) (by decide) (by decide +kernel)))
theorem xb243_2 (hC : z_HC l G d z_tb C) : z_SB "QuotaPeers$Text" prog_11_method_6_code 4 false d G l C ((Option.some Jvm.ClassFile.FieldType.boolean)) xp243 15 xB243_2.1 xB243_2.2 := sb_cons (n := 1) hC.1 (tz_cI _) (so_iconst (0) (0) (by decide +kernel) (by decide +kernel)) (sb_nil (tz_goto _ _) (st_fall (by decide)))
theorem xb243_3 (hC : z_HC l G d z_tb C) : z_SB "QuotaPeers$Text" prog_11_method_6_code 4 false d G l C ((Option.some Jvm.ClassFile.FieldType.boolean)) xp243 16 xB243_3.1 xB243_3.2 := sb_cons (n := 1) hC.1 (tz_stI _) (so_istore_n 2 (by decide) (by decide +kernel)) (sb_cons (n := 1) hC.1 (tz_cI _) (so_iconst (0) (0) (by decide +kernel) (by decide +kernel)) (sb_cons (n := 1) hC.1 (tz_stI _) (so_istore_n 3 (by decide) (by decide +kernel)) (sb_nil (tz_goto _ _) (st_fall (by decide)))))
theorem xb243_4 (hC : z_HC l G d z_tb C) : z_SB "QuotaPeers$Text" prog_11_method_6_code 4 false d G l C ((Option.some Jvm.ClassFile.FieldType.boolean)) xp243 19 xB243_4.1 xB243_4.2 := sb_cons (n := 1) hC.1 (tz_ldI _) (so_iload_n 3 (by decide +kernel)) (sb_cons (n := 1) hC.1 (tz_ldA _) (so_aload_n 0 (by decide +kernel)) (sb_cons (n := 3) hC.1 (tz_gI _ _) (xg_1_1 w165 (by decide +kernel)) (sb_nil (tz_icmp _ _ _ _ _) (st_icmp_ge (off := 34) (by decide) (by decide) (by decide +kernel)))))
theorem xb243_5 (hC : z_HC l G d z_tb C) : z_SB "QuotaPeers$Text" prog_11_method_6_code 4 false d G l C ((Option.some Jvm.ClassFile.FieldType.boolean)) xp243 27 xB243_5.1 xB243_5.2 := sb_cons (n := 1) hC.1 (tz_ldI _) (so_iload_n 2 (by decide +kernel)) (sb_nil (tz_if _ _ _ _ _) (st_if_eq (off := 30) (by decide) (by decide) (by decide +kernel)))
theorem xb243_6 (hC : z_HC l G d z_tb C) : z_SB "QuotaPeers$Text" prog_11_method_6_code 4 false d G l C ((Option.some Jvm.ClassFile.FieldType.boolean)) xp243 31 xB243_6.1 xB243_6.2 := sb_cons (n := 1) hC.1 (tz_ldA _) (so_aload_n 0 (by decide +kernel)) (sb_cons (n := 3) hC.1 (tz_gR _ _) (xg_1_0 w163 (by decide +kernel)) (sb_cons (n := 1) hC.1 (tz_ldI _) (so_iload_n 3 (by decide +kernel)) (sb_cons (n := 1) hC.1 (tz_aldI _) (so_baload (by decide +kernel)) (sb_cons (n := 1) hC.1 (tz_ldA _) (so_aload_n 1 (by decide +kernel)) (sb_cons (n := 3) hC.1 (tz_gR _ _) (xg_1_0 w163 (by decide +kernel)) (sb_cons (n := 1) hC.1 (tz_ldI _) (so_iload_n 3 (by decide +kernel)) (sb_cons (n := 1) hC.1 (tz_aldI _) (so_baload (by decide +kernel)) (sb_nil (tz_icmp _ _ _ _ _) (st_icmp_ne (off := 7) (by decide) (by decide) (by decide +kernel))))))))))
theorem xb243_7 (hC : z_HC l G d z_tb C) : z_SB "QuotaPeers$Text" prog_11_method_6_code 4 false d G l C ((Option.some Jvm.ClassFile.FieldType.boolean)) xp243 46 xB243_7.1 xB243_7.2 := sb_cons (n := 1) hC.1 (tz_cI _) (so_iconst (1) (1) (by decide +kernel) (by decide +kernel)) (sb_nil (tz_goto _ _) (st_goto (off := 4) (by decide) (by decide +kernel)))
theorem xb243_8 (hC : z_HC l G d z_tb C) : z_SB "QuotaPeers$Text" prog_11_method_6_code 4 false d G l C ((Option.some Jvm.ClassFile.FieldType.boolean)) xp243 50 xB243_8.1 xB243_8.2 := sb_cons (n := 1) hC.1 (tz_cI _) (so_iconst (0) (0) (by decide +kernel) (by decide +kernel)) (sb_nil (tz_goto _ _) (st_fall (by decide)))
theorem xb243_9 (hC : z_HC l G d z_tb C) : z_SB "QuotaPeers$Text" prog_11_method_6_code 4 false d G l C ((Option.some Jvm.ClassFile.FieldType.boolean)) xp243 51 xB243_9.1 xB243_9.2 := sb_cons (n := 1) hC.1 (tz_stI _) (so_istore_n 2 (by decide) (by decide +kernel)) (sb_cons (n := 3) hC.1 (tz_inc _ _) (so_iinc 3 (1) (1) (by decide +kernel) (by decide) (by decide +kernel)) (sb_nil (tz_goto _ _) (st_goto (off := -36) (by decide) (by decide +kernel))))
theorem xb243_10 (hC : z_HC l G d z_tb C) : z_SB "QuotaPeers$Text" prog_11_method_6_code 4 false d G l C ((Option.some Jvm.ClassFile.FieldType.boolean)) xp243 58 xB243_10.1 xB243_10.2 := sb_cons (n := 1) hC.1 (tz_ldI _) (so_iload_n 2 (by decide +kernel)) (sb_nil (tz_zret) (st_zret rfl (by decide +kernel)))
theorem xm243 (hC : z_HC l G d z_tb C) : z_SM "QuotaPeers$Text" prog_11_method_6_code 4 false d G l C ((Option.some Jvm.ClassFile.FieldType.boolean)) xp243 xP243 := by
  intro b
  match b with
  | 0 => exact xb243_0 hC
  | 1 => exact xb243_1 hC
  | 2 => exact xb243_2 hC
  | 3 => exact xb243_3 hC
  | 4 => exact xb243_4 hC
  | 5 => exact xb243_5 hC
  | 6 => exact xb243_6 hC
  | 7 => exact xb243_7 hC
  | 8 => exact xb243_8 hC
  | 9 => exact xb243_9 hC
  | 10 => exact xb243_10 hC
  | _ + 11 => exact sb_dead
end
/-! QuotaPeers$Text.isIn([BII)Z -/
def xB244_0 : List z_Op × z_Tm := ([zo_ldA 0, zo_gI 1 1, zo_ldI 3], zt_icmp (fun x y => x = y) 1 [true, true, true, true, false, false] 2 [true, true, true, true, false, false])
def xB244_1 : List z_Op × z_Tm := ([zo_cI (1)], zt_goto 3 [true, true, true, true, false, false])
def xB244_2 : List z_Op × z_Tm := ([zo_cI (0)], zt_goto 3 [true, true, true, true, false, false])
def xB244_3 : List z_Op × z_Tm := ([zo_stI 4, zo_cI (0), zo_stI 5], zt_goto 4 [true, true, true, true, true, true])
def xB244_4 : List z_Op × z_Tm := ([zo_ldI 5, zo_ldI 3], zt_icmp (fun x y => y ≤ x) 10 [false, false, false, false, true, false] 5 [true, true, true, true, true, true])
def xB244_5 : List z_Op × z_Tm := ([zo_ldI 4], zt_if (fun x => x = 0) 10 [false, false, false, false, true, false] 6 [true, true, true, true, false, true])
def xB244_6 : List z_Op × z_Tm := ([zo_ldA 0, zo_gR 1 0, zo_ldI 5, zo_aldI 17, zo_ldA 1, zo_ldI 2, zo_ldI 5, zo_ii ((· + ·)), zo_aldI 17], zt_icmp (fun x y => x = y) 7 [true, true, true, true, false, true] 8 [true, true, true, true, false, true])
def xB244_7 : List z_Op × z_Tm := ([zo_cI (1)], zt_goto 9 [true, true, true, true, false, true])
def xB244_8 : List z_Op × z_Tm := ([zo_cI (0)], zt_goto 9 [true, true, true, true, false, true])
def xB244_9 : List z_Op × z_Tm := ([zo_stI 4, zo_inc 5 (1)], zt_goto 4 [true, true, true, true, true, true])
def xB244_10 : List z_Op × z_Tm := ([zo_ldI 4], zt_zret)
def xp244 : Nat → Nat := fun b => ([0, 8, 12, 13, 18, 24, 29, 45, 49, 50, 58] : List Nat).getD b 0
def xP244 : z_M := fun b => ([xB244_0, xB244_1, xB244_2, xB244_3, xB244_4, xB244_5, xB244_6, xB244_7, xB244_8, xB244_9, xB244_10] : List (List z_Op × z_Tm)).getD b z_dead
section
variable {d : Nat} {G : z_G} {l : Launch} {C : z_O}
theorem xb244_0 (hC : z_HC l G d z_tb C) : z_SB "QuotaPeers$Text" prog_11_method_7_code 6 false d G l C ((Option.some Jvm.ClassFile.FieldType.boolean)) xp244 0 xB244_0.1 xB244_0.2 := sb_cons (n := 1) hC.1 (tz_ldA _) (so_aload_n 0 (by decide +kernel)) (sb_cons (n := 3) hC.1 (tz_gI _ _) (xg_1_1 w165 (by decide +kernel)) (sb_cons (n := 1) hC.1 (tz_ldI _) (so_iload_n 3 (by decide +kernel)) (sb_nil (tz_icmp _ _ _ _ _) (st_icmp_ne (off := 7) (by decide) (by decide) (by decide +kernel)))))
theorem xb244_1 (hC : z_HC l G d z_tb C) : z_SB "QuotaPeers$Text" prog_11_method_7_code 6 false d G l C ((Option.some Jvm.ClassFile.FieldType.boolean)) xp244 8 xB244_1.1 xB244_1.2 := sb_cons (n := 1) hC.1 (tz_cI _) (so_iconst (1) (1) (by decide +kernel) (by decide +kernel)) (sb_nil (tz_goto _ _) (st_goto (off := 4) (by decide) (by decide +kernel)))
theorem xb244_2 (hC : z_HC l G d z_tb C) : z_SB "QuotaPeers$Text" prog_11_method_7_code 6 false d G l C ((Option.some Jvm.ClassFile.FieldType.boolean)) xp244 12 xB244_2.1 xB244_2.2 := sb_cons (n := 1) hC.1 (tz_cI _) (so_iconst (0) (0) (by decide +kernel) (by decide +kernel)) (sb_nil (tz_goto _ _) (st_fall (by decide)))
theorem xb244_3 (hC : z_HC l G d z_tb C) : z_SB "QuotaPeers$Text" prog_11_method_7_code 6 false d G l C ((Option.some Jvm.ClassFile.FieldType.boolean)) xp244 13 xB244_3.1 xB244_3.2 := sb_cons (n := 2) hC.1 (tz_stI _) (so_istore 4 (by decide) (by decide +kernel)) (sb_cons (n := 1) hC.1 (tz_cI _) (so_iconst (0) (0) (by decide +kernel) (by decide +kernel)) (sb_cons (n := 2) hC.1 (tz_stI _) (so_istore 5 (by decide) (by decide +kernel)) (sb_nil (tz_goto _ _) (st_fall (by decide)))))
theorem xb244_4 (hC : z_HC l G d z_tb C) : z_SB "QuotaPeers$Text" prog_11_method_7_code 6 false d G l C ((Option.some Jvm.ClassFile.FieldType.boolean)) xp244 18 xB244_4.1 xB244_4.2 := sb_cons (n := 2) hC.1 (tz_ldI _) (so_iload 5 (by decide +kernel)) (sb_cons (n := 1) hC.1 (tz_ldI _) (so_iload_n 3 (by decide +kernel)) (sb_nil (tz_icmp _ _ _ _ _) (st_icmp_ge (off := 37) (by decide) (by decide) (by decide +kernel))))
theorem xb244_5 (hC : z_HC l G d z_tb C) : z_SB "QuotaPeers$Text" prog_11_method_7_code 6 false d G l C ((Option.some Jvm.ClassFile.FieldType.boolean)) xp244 24 xB244_5.1 xB244_5.2 := sb_cons (n := 2) hC.1 (tz_ldI _) (so_iload 4 (by decide +kernel)) (sb_nil (tz_if _ _ _ _ _) (st_if_eq (off := 32) (by decide) (by decide) (by decide +kernel)))
theorem xb244_6 (hC : z_HC l G d z_tb C) : z_SB "QuotaPeers$Text" prog_11_method_7_code 6 false d G l C ((Option.some Jvm.ClassFile.FieldType.boolean)) xp244 29 xB244_6.1 xB244_6.2 := sb_cons (n := 1) hC.1 (tz_ldA _) (so_aload_n 0 (by decide +kernel)) (sb_cons (n := 3) hC.1 (tz_gR _ _) (xg_1_0 w163 (by decide +kernel)) (sb_cons (n := 2) hC.1 (tz_ldI _) (so_iload 5 (by decide +kernel)) (sb_cons (n := 1) hC.1 (tz_aldI _) (so_baload (by decide +kernel)) (sb_cons (n := 1) hC.1 (tz_ldA _) (so_aload_n 1 (by decide +kernel)) (sb_cons (n := 1) hC.1 (tz_ldI _) (so_iload_n 2 (by decide +kernel)) (sb_cons (n := 2) hC.1 (tz_ldI _) (so_iload 5 (by decide +kernel)) (sb_cons (n := 1) hC.1 (tz_ii _) (so_iadd (by decide +kernel)) (sb_cons (n := 1) hC.1 (tz_aldI _) (so_baload (by decide +kernel)) (sb_nil (tz_icmp _ _ _ _ _) (st_icmp_ne (off := 7) (by decide) (by decide) (by decide +kernel)))))))))))
theorem xb244_7 (hC : z_HC l G d z_tb C) : z_SB "QuotaPeers$Text" prog_11_method_7_code 6 false d G l C ((Option.some Jvm.ClassFile.FieldType.boolean)) xp244 45 xB244_7.1 xB244_7.2 := sb_cons (n := 1) hC.1 (tz_cI _) (so_iconst (1) (1) (by decide +kernel) (by decide +kernel)) (sb_nil (tz_goto _ _) (st_goto (off := 4) (by decide) (by decide +kernel)))
theorem xb244_8 (hC : z_HC l G d z_tb C) : z_SB "QuotaPeers$Text" prog_11_method_7_code 6 false d G l C ((Option.some Jvm.ClassFile.FieldType.boolean)) xp244 49 xB244_8.1 xB244_8.2 := sb_cons (n := 1) hC.1 (tz_cI _) (so_iconst (0) (0) (by decide +kernel) (by decide +kernel)) (sb_nil (tz_goto _ _) (st_fall (by decide)))
theorem xb244_9 (hC : z_HC l G d z_tb C) : z_SB "QuotaPeers$Text" prog_11_method_7_code 6 false d G l C ((Option.some Jvm.ClassFile.FieldType.boolean)) xp244 50 xB244_9.1 xB244_9.2 := sb_cons (n := 2) hC.1 (tz_stI _) (so_istore 4 (by decide) (by decide +kernel)) (sb_cons (n := 3) hC.1 (tz_inc _ _) (so_iinc 5 (1) (1) (by decide +kernel) (by decide) (by decide +kernel)) (sb_nil (tz_goto _ _) (st_goto (off := -37) (by decide) (by decide +kernel))))
theorem xb244_10 (hC : z_HC l G d z_tb C) : z_SB "QuotaPeers$Text" prog_11_method_7_code 6 false d G l C ((Option.some Jvm.ClassFile.FieldType.boolean)) xp244 58 xB244_10.1 xB244_10.2 := sb_cons (n := 2) hC.1 (tz_ldI _) (so_iload 4 (by decide +kernel)) (sb_nil (tz_zret) (st_zret rfl (by decide +kernel)))
theorem xm244 (hC : z_HC l G d z_tb C) : z_SM "QuotaPeers$Text" prog_11_method_7_code 6 false d G l C ((Option.some Jvm.ClassFile.FieldType.boolean)) xp244 xP244 := by
  intro b
  match b with
  | 0 => exact xb244_0 hC
  | 1 => exact xb244_1 hC
  | 2 => exact xb244_2 hC
  | 3 => exact xb244_3 hC
  | 4 => exact xb244_4 hC
  | 5 => exact xb244_5 hC
  | 6 => exact xb244_6 hC
  | 7 => exact xb244_7 hC
  | 8 => exact xb244_8 hC
  | 9 => exact xb244_9 hC
  | 10 => exact xb244_10 hC
  | _ + 11 => exact sb_dead
end
/-! QuotaPeers$Text.isLater(LQuotaPeers$Text;)Z -/
def xB245_0 : List z_Op × z_Tm := ([zo_cI (0), zo_stI 2], zt_goto 1 [true, true, true])
def xB245_1 : List z_Op × z_Tm := ([zo_ldI 2, zo_ldA 0, zo_gI 1 1], zt_icmp (fun x y => y ≤ x) 5 [true, true, true] 2 [true, true, true])
def xB245_2 : List z_Op × z_Tm := ([zo_ldI 2, zo_ldA 1, zo_gI 1 1], zt_icmp (fun x y => y ≤ x) 5 [true, true, true] 3 [true, true, true])
def xB245_3 : List z_Op × z_Tm := ([zo_ldA 0, zo_gR 1 0, zo_ldI 2, zo_aldI 17, zo_ldA 1, zo_gR 1 0, zo_ldI 2, zo_aldI 17], zt_icmp (fun x y => x = y) 4 [true, true, true] 5 [true, true, true])
def xB245_4 : List z_Op × z_Tm := ([zo_inc 2 (1)], zt_goto 1 [true, true, true])
def xB245_5 : List z_Op × z_Tm := ([zo_ldI 2, zo_ldA 0, zo_gI 1 1], zt_icmp (fun x y => x = y) 7 [true, true, false] 6 [true, true, true])
def xB245_6 : List z_Op × z_Tm := ([zo_ldI 2, zo_ldA 1, zo_gI 1 1], zt_icmp (fun x y => x = y) 7 [true, true, false] 10 [true, true, true])
def xB245_7 : List z_Op × z_Tm := ([zo_ldA 0, zo_gI 1 1, zo_ldA 1, zo_gI 1 1], zt_icmp (fun x y => x ≤ y) 9 [false, false, false] 8 [false, false, false])
def xB245_8 : List z_Op × z_Tm := ([zo_cI (1)], zt_goto 13 [false, false, false])
def xB245_9 : List z_Op × z_Tm := ([zo_cI (0)], zt_goto 13 [false, false, false])
def xB245_10 : List z_Op × z_Tm := ([zo_ldA 0, zo_gR 1 0, zo_ldI 2, zo_aldI 17, zo_cI (255), zo_ii ((· &&& ·)), zo_ldA 1, zo_gR 1 0, zo_ldI 2, zo_aldI 17, zo_cI (255), zo_ii ((· &&& ·))], zt_icmp (fun x y => x ≤ y) 12 [false, false, false] 11 [false, false, false])
def xB245_11 : List z_Op × z_Tm := ([zo_cI (1)], zt_goto 13 [false, false, false])
def xB245_12 : List z_Op × z_Tm := ([zo_cI (0)], zt_goto 13 [false, false, false])
def xB245_13 : List z_Op × z_Tm := ([], zt_zret)
def xp245 : Nat → Nat := fun b => ([0, 2, 10, 18, 33, 39, 47, 55, 66, 70, 74, 97, 101, 102] : List Nat).getD b 0
def xP245 : z_M := fun b => ([xB245_0, xB245_1, xB245_2, xB245_3, xB245_4, xB245_5, xB245_6, xB245_7, xB245_8, xB245_9, xB245_10, xB245_11, xB245_12, xB245_13] : List (List z_Op × z_Tm)).getD b z_dead
section
variable {d : Nat} {G : z_G} {l : Launch} {C : z_O}
theorem xb245_0 (hC : z_HC l G d z_tb C) : z_SB "QuotaPeers$Text" prog_11_method_8_code 3 false d G l C ((Option.some Jvm.ClassFile.FieldType.boolean)) xp245 0 xB245_0.1 xB245_0.2 := sb_cons (n := 1) hC.1 (tz_cI _) (so_iconst (0) (0) (by decide +kernel) (by decide +kernel)) (sb_cons (n := 1) hC.1 (tz_stI _) (so_istore_n 2 (by decide) (by decide +kernel)) (sb_nil (tz_goto _ _) (st_fall (by decide))))
theorem xb245_1 (hC : z_HC l G d z_tb C) : z_SB "QuotaPeers$Text" prog_11_method_8_code 3 false d G l C ((Option.some Jvm.ClassFile.FieldType.boolean)) xp245 2 xB245_1.1 xB245_1.2 := sb_cons (n := 1) hC.1 (tz_ldI _) (so_iload_n 2 (by decide +kernel)) (sb_cons (n := 1) hC.1 (tz_ldA _) (so_aload_n 0 (by decide +kernel)) (sb_cons (n := 3) hC.1 (tz_gI _ _) (xg_1_1 w165 (by decide +kernel)) (sb_nil (tz_icmp _ _ _ _ _) (st_icmp_ge (off := 32) (by decide) (by decide) (by decide +kernel)))))
theorem xb245_2 (hC : z_HC l G d z_tb C) : z_SB "QuotaPeers$Text" prog_11_method_8_code 3 false d G l C ((Option.some Jvm.ClassFile.FieldType.boolean)) xp245 10 xB245_2.1 xB245_2.2 := sb_cons (n := 1) hC.1 (tz_ldI _) (so_iload_n 2 (by decide +kernel)) (sb_cons (n := 1) hC.1 (tz_ldA _) (so_aload_n 1 (by decide +kernel)) (sb_cons (n := 3) hC.1 (tz_gI _ _) (xg_1_1 w165 (by decide +kernel)) (sb_nil (tz_icmp _ _ _ _ _) (st_icmp_ge (off := 24) (by decide) (by decide) (by decide +kernel)))))
theorem xb245_3 (hC : z_HC l G d z_tb C) : z_SB "QuotaPeers$Text" prog_11_method_8_code 3 false d G l C ((Option.some Jvm.ClassFile.FieldType.boolean)) xp245 18 xB245_3.1 xB245_3.2 := sb_cons (n := 1) hC.1 (tz_ldA _) (so_aload_n 0 (by decide +kernel)) (sb_cons (n := 3) hC.1 (tz_gR _ _) (xg_1_0 w163 (by decide +kernel)) (sb_cons (n := 1) hC.1 (tz_ldI _) (so_iload_n 2 (by decide +kernel)) (sb_cons (n := 1) hC.1 (tz_aldI _) (so_baload (by decide +kernel)) (sb_cons (n := 1) hC.1 (tz_ldA _) (so_aload_n 1 (by decide +kernel)) (sb_cons (n := 3) hC.1 (tz_gR _ _) (xg_1_0 w163 (by decide +kernel)) (sb_cons (n := 1) hC.1 (tz_ldI _) (so_iload_n 2 (by decide +kernel)) (sb_cons (n := 1) hC.1 (tz_aldI _) (so_baload (by decide +kernel)) (sb_nil (tz_icmp _ _ _ _ _) (st_icmp_ne (off := 9) (by decide) (by decide) (by decide +kernel))))))))))
theorem xb245_4 (hC : z_HC l G d z_tb C) : z_SB "QuotaPeers$Text" prog_11_method_8_code 3 false d G l C ((Option.some Jvm.ClassFile.FieldType.boolean)) xp245 33 xB245_4.1 xB245_4.2 := sb_cons (n := 3) hC.1 (tz_inc _ _) (so_iinc 2 (1) (1) (by decide +kernel) (by decide) (by decide +kernel)) (sb_nil (tz_goto _ _) (st_goto (off := -34) (by decide) (by decide +kernel)))
theorem xb245_5 (hC : z_HC l G d z_tb C) : z_SB "QuotaPeers$Text" prog_11_method_8_code 3 false d G l C ((Option.some Jvm.ClassFile.FieldType.boolean)) xp245 39 xB245_5.1 xB245_5.2 := sb_cons (n := 1) hC.1 (tz_ldI _) (so_iload_n 2 (by decide +kernel)) (sb_cons (n := 1) hC.1 (tz_ldA _) (so_aload_n 0 (by decide +kernel)) (sb_cons (n := 3) hC.1 (tz_gI _ _) (xg_1_1 w165 (by decide +kernel)) (sb_nil (tz_icmp _ _ _ _ _) (st_icmp_eq (off := 11) (by decide) (by decide) (by decide +kernel)))))
theorem xb245_6 (hC : z_HC l G d z_tb C) : z_SB "QuotaPeers$Text" prog_11_method_8_code 3 false d G l C ((Option.some Jvm.ClassFile.FieldType.boolean)) xp245 47 xB245_6.1 xB245_6.2 := sb_cons (n := 1) hC.1 (tz_ldI _) (so_iload_n 2 (by decide +kernel)) (sb_cons (n := 1) hC.1 (tz_ldA _) (so_aload_n 1 (by decide +kernel)) (sb_cons (n := 3) hC.1 (tz_gI _ _) (xg_1_1 w165 (by decide +kernel)) (sb_nil (tz_icmp _ _ _ _ _) (st_icmp_ne (off := 22) (by decide) (by decide) (by decide +kernel)))))
theorem xb245_7 (hC : z_HC l G d z_tb C) : z_SB "QuotaPeers$Text" prog_11_method_8_code 3 false d G l C ((Option.some Jvm.ClassFile.FieldType.boolean)) xp245 55 xB245_7.1 xB245_7.2 := sb_cons (n := 1) hC.1 (tz_ldA _) (so_aload_n 0 (by decide +kernel)) (sb_cons (n := 3) hC.1 (tz_gI _ _) (xg_1_1 w165 (by decide +kernel)) (sb_cons (n := 1) hC.1 (tz_ldA _) (so_aload_n 1 (by decide +kernel)) (sb_cons (n := 3) hC.1 (tz_gI _ _) (xg_1_1 w165 (by decide +kernel)) (sb_nil (tz_icmp _ _ _ _ _) (st_icmp_le (off := 7) (by decide) (by decide) (by decide +kernel))))))
theorem xb245_8 (hC : z_HC l G d z_tb C) : z_SB "QuotaPeers$Text" prog_11_method_8_code 3 false d G l C ((Option.some Jvm.ClassFile.FieldType.boolean)) xp245 66 xB245_8.1 xB245_8.2 := sb_cons (n := 1) hC.1 (tz_cI _) (so_iconst (1) (1) (by decide +kernel) (by decide +kernel)) (sb_nil (tz_goto _ _) (st_goto (off := 35) (by decide) (by decide +kernel)))
theorem xb245_9 (hC : z_HC l G d z_tb C) : z_SB "QuotaPeers$Text" prog_11_method_8_code 3 false d G l C ((Option.some Jvm.ClassFile.FieldType.boolean)) xp245 70 xB245_9.1 xB245_9.2 := sb_cons (n := 1) hC.1 (tz_cI _) (so_iconst (0) (0) (by decide +kernel) (by decide +kernel)) (sb_nil (tz_goto _ _) (st_goto (off := 31) (by decide) (by decide +kernel)))
theorem xb245_10 (hC : z_HC l G d z_tb C) : z_SB "QuotaPeers$Text" prog_11_method_8_code 3 false d G l C ((Option.some Jvm.ClassFile.FieldType.boolean)) xp245 74 xB245_10.1 xB245_10.2 := sb_cons (n := 1) hC.1 (tz_ldA _) (so_aload_n 0 (by decide +kernel)) (sb_cons (n := 3) hC.1 (tz_gR _ _) (xg_1_0 w163 (by decide +kernel)) (sb_cons (n := 1) hC.1 (tz_ldI _) (so_iload_n 2 (by decide +kernel)) (sb_cons (n := 1) hC.1 (tz_aldI _) (so_baload (by decide +kernel)) (sb_cons (n := 3) hC.1 (tz_cI _) (so_sipush (255) (255) (by decide +kernel) (by decide +kernel)) (sb_cons (n := 1) hC.1 (tz_ii _) (so_iand (by decide +kernel)) (sb_cons (n := 1) hC.1 (tz_ldA _) (so_aload_n 1 (by decide +kernel)) (sb_cons (n := 3) hC.1 (tz_gR _ _) (xg_1_0 w163 (by decide +kernel)) (sb_cons (n := 1) hC.1 (tz_ldI _) (so_iload_n 2 (by decide +kernel)) (sb_cons (n := 1) hC.1 (tz_aldI _) (so_baload (by decide +kernel)) (sb_cons (n := 3) hC.1 (tz_cI _) (so_sipush (255) (255) (by decide +kernel) (by decide +kernel)) (sb_cons (n := 1) hC.1 (tz_ii _) (so_iand (by decide +kernel)) (sb_nil (tz_icmp _ _ _ _ _) (st_icmp_le (off := 7) (by decide) (by decide) (by decide +kernel))))))))))))))
theorem xb245_11 (hC : z_HC l G d z_tb C) : z_SB "QuotaPeers$Text" prog_11_method_8_code 3 false d G l C ((Option.some Jvm.ClassFile.FieldType.boolean)) xp245 97 xB245_11.1 xB245_11.2 := sb_cons (n := 1) hC.1 (tz_cI _) (so_iconst (1) (1) (by decide +kernel) (by decide +kernel)) (sb_nil (tz_goto _ _) (st_goto (off := 4) (by decide) (by decide +kernel)))
theorem xb245_12 (hC : z_HC l G d z_tb C) : z_SB "QuotaPeers$Text" prog_11_method_8_code 3 false d G l C ((Option.some Jvm.ClassFile.FieldType.boolean)) xp245 101 xB245_12.1 xB245_12.2 := sb_cons (n := 1) hC.1 (tz_cI _) (so_iconst (0) (0) (by decide +kernel) (by decide +kernel)) (sb_nil (tz_goto _ _) (st_fall (by decide)))
theorem xb245_13 (hC : z_HC l G d z_tb C) : z_SB "QuotaPeers$Text" prog_11_method_8_code 3 false d G l C ((Option.some Jvm.ClassFile.FieldType.boolean)) xp245 102 xB245_13.1 xB245_13.2 := sb_nil (tz_zret) (st_zret rfl (by decide +kernel))
theorem xm245 (hC : z_HC l G d z_tb C) : z_SM "QuotaPeers$Text" prog_11_method_8_code 3 false d G l C ((Option.some Jvm.ClassFile.FieldType.boolean)) xp245 xP245 := by
  intro b
  match b with
  | 0 => exact xb245_0 hC
  | 1 => exact xb245_1 hC
  | 2 => exact xb245_2 hC
  | 3 => exact xb245_3 hC
  | 4 => exact xb245_4 hC
  | 5 => exact xb245_5 hC
  | 6 => exact xb245_6 hC
  | 7 => exact xb245_7 hC
  | 8 => exact xb245_8 hC
  | 9 => exact xb245_9 hC
  | 10 => exact xb245_10 hC
  | 11 => exact xb245_11 hC
  | 12 => exact xb245_12 hC
  | 13 => exact xb245_13 hC
  | _ + 14 => exact sb_dead
end
/-! QuotaPeers$Text.set(IIIIII)V -/
def xB246_0 : List z_Op × z_Tm := ([zo_ldA 0, zo_cvV 239 0 1, zo_ldA 0, zo_ldI 1, zo_cvV 240 1 1, zo_ldA 0, zo_ldI 2, zo_cvV 240 1 1, zo_ldA 0, zo_ldI 3, zo_cvV 240 1 1, zo_ldA 0, zo_ldI 4, zo_cvV 240 1 1, zo_ldI 5], zt_if (fun x => x = 0) 1 [false, false, false, false, false, false, false] 2 [true, false, false, false, false, true, true])
def xB246_1 : List z_Op × z_Tm := ([], zt_vret)
def xB246_2 : List z_Op × z_Tm := ([zo_ldA 0, zo_ldI 5, zo_cvV 240 1 1, zo_ldA 0, zo_ldI 6, zo_cvV 240 1 1], zt_vret)
def xp246 : Nat → Nat := fun b => ([0, 30, 31] : List Nat).getD b 0
def xP246 : z_M := fun b => ([xB246_0, xB246_1, xB246_2] : List (List z_Op × z_Tm)).getD b z_dead
section
variable {d : Nat} {G : z_G} {l : Launch} {C : z_O}
theorem xb246_0 (hC : z_HC l G d z_tb C) : z_SB "QuotaPeers$Text" prog_11_method_9_code 7 false d G l C ((Option.none : Option Jvm.ClassFile.FieldType)) xp246 0 xB246_0.1 xB246_0.2 := sb_cons (n := 1) hC.1 (tz_ldA _) (so_aload_n 0 (by decide +kernel)) (sb_cons (n := 3) hC.1 (tz_cvV _ _ _) (xc_239 hC w284 (by decide +kernel)) (sb_cons (n := 1) hC.1 (tz_ldA _) (so_aload_n 0 (by decide +kernel)) (sb_cons (n := 1) hC.1 (tz_ldI _) (so_iload_n 1 (by decide +kernel)) (sb_cons (n := 3) hC.1 (tz_cvV _ _ _) (xc_240 hC w288 (by decide +kernel)) (sb_cons (n := 1) hC.1 (tz_ldA _) (so_aload_n 0 (by decide +kernel)) (sb_cons (n := 1) hC.1 (tz_ldI _) (so_iload_n 2 (by decide +kernel)) (sb_cons (n := 3) hC.1 (tz_cvV _ _ _) (xc_240 hC w288 (by decide +kernel)) (sb_cons (n := 1) hC.1 (tz_ldA _) (so_aload_n 0 (by decide +kernel)) (sb_cons (n := 1) hC.1 (tz_ldI _) (so_iload_n 3 (by decide +kernel)) (sb_cons (n := 3) hC.1 (tz_cvV _ _ _) (xc_240 hC w288 (by decide +kernel)) (sb_cons (n := 1) hC.1 (tz_ldA _) (so_aload_n 0 (by decide +kernel)) (sb_cons (n := 2) hC.1 (tz_ldI _) (so_iload 4 (by decide +kernel)) (sb_cons (n := 3) hC.1 (tz_cvV _ _ _) (xc_240 hC w288 (by decide +kernel)) (sb_cons (n := 2) hC.1 (tz_ldI _) (so_iload 5 (by decide +kernel)) (sb_nil (tz_if _ _ _ _ _) (st_if_ne (off := 4) (by decide) (by decide) (by decide +kernel)))))))))))))))))
theorem xb246_1 (hC : z_HC l G d z_tb C) : z_SB "QuotaPeers$Text" prog_11_method_9_code 7 false d G l C ((Option.none : Option Jvm.ClassFile.FieldType)) xp246 30 xB246_1.1 xB246_1.2 := sb_nil (tz_vret) (st_vret rfl (by decide +kernel))
theorem xb246_2 (hC : z_HC l G d z_tb C) : z_SB "QuotaPeers$Text" prog_11_method_9_code 7 false d G l C ((Option.none : Option Jvm.ClassFile.FieldType)) xp246 31 xB246_2.1 xB246_2.2 := sb_cons (n := 1) hC.1 (tz_ldA _) (so_aload_n 0 (by decide +kernel)) (sb_cons (n := 2) hC.1 (tz_ldI _) (so_iload 5 (by decide +kernel)) (sb_cons (n := 3) hC.1 (tz_cvV _ _ _) (xc_240 hC w288 (by decide +kernel)) (sb_cons (n := 1) hC.1 (tz_ldA _) (so_aload_n 0 (by decide +kernel)) (sb_cons (n := 2) hC.1 (tz_ldI _) (so_iload 6 (by decide +kernel)) (sb_cons (n := 3) hC.1 (tz_cvV _ _ _) (xc_240 hC w288 (by decide +kernel)) (sb_nil (tz_vret) (st_vret rfl (by decide +kernel))))))))
theorem xm246 (hC : z_HC l G d z_tb C) : z_SM "QuotaPeers$Text" prog_11_method_9_code 7 false d G l C ((Option.none : Option Jvm.ClassFile.FieldType)) xp246 xP246 := by
  intro b
  match b with
  | 0 => exact xb246_0 hC
  | 1 => exact xb246_1 hC
  | 2 => exact xb246_2 hC
  | _ + 3 => exact sb_dead
end
/-! QuotaPeers$Command.values()[LQuotaPeers$Command; -/
def xB247_0 : List z_Op × z_Tm := ([zo_vals 75497658], zt_aret)
def xp247 : Nat → Nat := fun b => ([0] : List Nat).getD b 0
def xP247 : z_M := fun b => ([xB247_0] : List (List z_Op × z_Tm)).getD b z_dead
section
variable {d : Nat} {G : z_G} {l : Launch} {C : z_O}
theorem xb247_0 (hC : z_HC l G d z_tb C) : z_SB "QuotaPeers$Command" prog_4_method_1_code 0 false d G l C ((Option.some (Jvm.ClassFile.FieldType.array (Jvm.ClassFile.FieldType.object "QuotaPeers$Command")))) xp247 0 xB247_0.1 xB247_0.2 := sb_cons (n := 9) hC.1 (tz_vals _) (so_vals 75497658 rfl rfl w198 w200 w201 w202 w203 w204 w205 w207 (by decide +kernel) (by decide +kernel) (by decide +kernel)) (sb_nil (tz_aret) (st_aretA rfl (by decide +kernel)))
theorem xm247 (hC : z_HC l G d z_tb C) : z_SM "QuotaPeers$Command" prog_4_method_1_code 0 false d G l C ((Option.some (Jvm.ClassFile.FieldType.array (Jvm.ClassFile.FieldType.object "QuotaPeers$Command")))) xp247 xP247 := by
  intro b
  match b with
  | 0 => exact xb247_0 hC
  | _ + 1 => exact sb_dead
end
