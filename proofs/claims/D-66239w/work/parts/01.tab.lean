/-! PART 01 (printed by wip/gen/gen_tab.py): the tables' words by their places; classes, fields, arrays -/
set_option maxRecDepth 100000
theorem w133 : (Jvm.Cond.initialized "QuotaPeersLaw") ∈ lw_all := lw_g (lw_at lw_m1 0 rfl) rfl
theorem w134 : (Jvm.Cond.initialized "QuotaPeers") ∈ lw_all := lw_g (lw_at lw_m1 1 rfl) rfl
theorem w135 : (Jvm.Cond.initialized "QuotaPeers$Text") ∈ lw_all := lw_g (lw_at lw_m1 2 rfl) rfl
theorem w136 : (Jvm.Cond.initialized "QuotaPeers$Page") ∈ lw_all := lw_g (lw_at lw_m1 3 rfl) rfl
theorem w137 : (Jvm.Cond.initialized "QuotaPeers$Message") ∈ lw_all := lw_g (lw_at lw_m1 4 rfl) rfl
theorem w138 : (Jvm.Cond.initialized "java/lang/Enum") ∈ lw_all := lw_g (lw_at lw_m1 5 rfl) rfl
theorem w139 : (Jvm.Cond.initialized "QuotaPeers$Command") ∈ lw_all := lw_g (lw_at lw_m1 6 rfl) rfl
theorem w140 : (Jvm.Cond.initialized "QuotaPeers$Link") ∈ lw_all := lw_g (lw_at lw_m1 7 rfl) rfl
theorem w141 : (Jvm.Cond.initialized "QuotaPeers$Session") ∈ lw_all := lw_g (lw_at lw_m1 8 rfl) rfl
theorem w142 : (Jvm.Cond.initialized "QuotaPeers$Question") ∈ lw_all := lw_g (lw_at lw_m1 9 rfl) rfl
theorem w143 : (Jvm.Cond.initialized "QuotaPeers$Answer") ∈ lw_all := lw_g (lw_at lw_m1 10 rfl) rfl
theorem w144 : (Jvm.Cond.initialized "QuotaPeersModel") ∈ lw_all := lw_g (lw_at lw_m1 11 rfl) rfl
theorem w145 : (Jvm.Cond.initialized "java/lang/System") ∈ lw_all := lw_g (lw_at lw_m1 12 rfl) rfl
theorem w146 : (Jvm.Cond.initialized "QuotaPeers$Peer") ∈ lw_all := lw_g (lw_at lw_m1 13 rfl) rfl
theorem w147 : (Jvm.Cond.initialized "java/lang/Math") ∈ lw_all := lw_g (lw_at lw_m1 14 rfl) rfl
theorem w148 : (Jvm.Cond.initialized "QuotaPeers$Account") ∈ lw_all := lw_g (lw_at lw_m1 15 rfl) rfl
theorem w149 : (Jvm.Cond.classLink "QuotaPeersLaw" (7 : Nat) "QuotaPeers") ∈ lw_all := lw_g (lw_at lw_m1 16 rfl) rfl
theorem w150 : (Jvm.Cond.instantiable "QuotaPeers" (22 : Nat)) ∈ lw_all := lw_g (lw_at lw_m1 17 rfl) rfl
theorem w151 : (Jvm.Cond.methodLink "QuotaPeersLaw" (9 : Nat) ({ cls := "QuotaPeers", name := "<init>", desc := "()V" } : Jvm.MethodName)) ∈ lw_all := lw_g (lw_at lw_m1 18 rfl) rfl
theorem w152 : (Jvm.Cond.instanceMethod ({ cls := "QuotaPeers", name := "<init>", desc := "()V" } : Jvm.MethodName)) ∈ lw_all := lw_g (lw_at lw_m1 19 rfl) rfl
theorem w153 : (Jvm.Cond.code ({ cls := "QuotaPeers", name := "<init>", desc := "()V" } : Jvm.MethodName) prog_1_method_2_code (2 : Nat) (Option.none : Option Jvm.ClassFile.FieldType)) ∈ lw_all := lw_g (lw_at lw_m1 20 rfl) rfl
theorem w154 : (Jvm.Cond.methodLink "QuotaPeers" (1 : Nat) ({ cls := "java/lang/Object", name := "<init>", desc := "()V" } : Jvm.MethodName)) ∈ lw_all := lw_g (lw_at lw_m1 21 rfl) rfl
theorem w155 : (Jvm.Cond.instanceMethod ({ cls := "java/lang/Object", name := "<init>", desc := "()V" } : Jvm.MethodName)) ∈ lw_all := lw_g (lw_at lw_m1 22 rfl) rfl
theorem w156 : (Jvm.Cond.code ({ cls := "java/lang/Object", name := "<init>", desc := "()V" } : Jvm.MethodName) object_method_1_code (1 : Nat) (Option.none : Option Jvm.ClassFile.FieldType)) ∈ lw_all := lw_g (lw_at lw_m1 23 rfl) rfl
theorem w157 : (Jvm.Cond.classLink "QuotaPeers" (7 : Nat) "QuotaPeers$Text") ∈ lw_all := lw_g (lw_at lw_m1 24 rfl) rfl
theorem w158 : (Jvm.Cond.instantiable "QuotaPeers$Text" (2 : Nat)) ∈ lw_all := lw_g (lw_at lw_m1 25 rfl) rfl
theorem w159 : (Jvm.Cond.methodLinkNest "QuotaPeers" (9 : Nat) ({ cls := "QuotaPeers$Text", name := "<init>", desc := "()V" } : Jvm.MethodName) "QuotaPeers") ∈ lw_tbl := lw_at lw_m1 26 rfl
theorem w160 : (Jvm.Cond.instanceMethod ({ cls := "QuotaPeers$Text", name := "<init>", desc := "()V" } : Jvm.MethodName)) ∈ lw_all := lw_g (lw_at lw_m1 27 rfl) rfl
theorem w161 : (Jvm.Cond.code ({ cls := "QuotaPeers$Text", name := "<init>", desc := "()V" } : Jvm.MethodName) prog_11_method_1_code (1 : Nat) (Option.none : Option Jvm.ClassFile.FieldType)) ∈ lw_all := lw_g (lw_at lw_m1 28 rfl) rfl
theorem w162 : (Jvm.Cond.methodLink "QuotaPeers$Text" (1 : Nat) ({ cls := "java/lang/Object", name := "<init>", desc := "()V" } : Jvm.MethodName)) ∈ lw_all := lw_g (lw_at lw_m1 29 rfl) rfl
theorem w163 : (Jvm.Cond.fieldLink "QuotaPeers$Text" (7 : Nat) "QuotaPeers$Text" "cells" "[B") ∈ lw_all := lw_g (lw_at lw_m1 30 rfl) rfl
theorem w164 : (Jvm.Cond.fieldLinkNest "QuotaPeers$Page" (36 : Nat) "QuotaPeers$Text" "cells" "[B" "QuotaPeers") ∈ lw_tbl := lw_at lw_m1 31 rfl
theorem w165 : (Jvm.Cond.fieldLink "QuotaPeers$Text" (13 : Nat) "QuotaPeers$Text" "size" "I") ∈ lw_all := lw_g (lw_at lw_m1 32 rfl) rfl
theorem w166 : (Jvm.Cond.fieldLinkNest "QuotaPeers" (92 : Nat) "QuotaPeers$Text" "size" "I" "QuotaPeers") ∈ lw_tbl := lw_at lw_m1 33 rfl
theorem w167 : (Jvm.Cond.fieldLinkNest "QuotaPeers$Page" (33 : Nat) "QuotaPeers$Text" "size" "I" "QuotaPeers") ∈ lw_tbl := lw_at lw_m1 34 rfl
theorem w173 : (Jvm.Cond.arrayClass Jvm.ClassFile.FieldType.byte) ∈ lw_all := lw_g (lw_at lw_m1 40 rfl) rfl
theorem w174 : (Jvm.Cond.classLink "QuotaPeers" (25 : Nat) "QuotaPeers$Page") ∈ lw_all := lw_g (lw_at lw_m1 41 rfl) rfl
theorem w175 : (Jvm.Cond.instantiable "QuotaPeers$Page" (2 : Nat)) ∈ lw_all := lw_g (lw_at lw_m1 42 rfl) rfl
theorem w176 : (Jvm.Cond.methodLinkNest "QuotaPeers" (27 : Nat) ({ cls := "QuotaPeers$Page", name := "<init>", desc := "()V" } : Jvm.MethodName) "QuotaPeers") ∈ lw_tbl := lw_at lw_m1 43 rfl
theorem w177 : (Jvm.Cond.instanceMethod ({ cls := "QuotaPeers$Page", name := "<init>", desc := "()V" } : Jvm.MethodName)) ∈ lw_all := lw_g (lw_at lw_m1 44 rfl) rfl
theorem w178 : (Jvm.Cond.code ({ cls := "QuotaPeers$Page", name := "<init>", desc := "()V" } : Jvm.MethodName) prog_7_method_1_code (1 : Nat) (Option.none : Option Jvm.ClassFile.FieldType)) ∈ lw_all := lw_g (lw_at lw_m1 45 rfl) rfl
theorem w179 : (Jvm.Cond.methodLink "QuotaPeers$Page" (3 : Nat) ({ cls := "java/lang/Object", name := "<init>", desc := "()V" } : Jvm.MethodName)) ∈ lw_all := lw_g (lw_at lw_m1 46 rfl) rfl
theorem w180 : (Jvm.Cond.fieldLink "QuotaPeers$Page" (9 : Nat) "QuotaPeers$Page" "cells" "[B") ∈ lw_all := lw_g (lw_at lw_m1 47 rfl) rfl
theorem w181 : (Jvm.Cond.fieldLinkNest "QuotaPeers" (129 : Nat) "QuotaPeers$Page" "cells" "[B" "QuotaPeers") ∈ lw_tbl := lw_at lw_m1 48 rfl
theorem w182 : (Jvm.Cond.fieldLink "QuotaPeers$Page" (15 : Nat) "QuotaPeers$Page" "size" "I") ∈ lw_all := lw_g (lw_at lw_m1 49 rfl) rfl
theorem w183 : (Jvm.Cond.fieldLinkNest "QuotaPeers" (133 : Nat) "QuotaPeers$Page" "size" "I" "QuotaPeers") ∈ lw_tbl := lw_at lw_m1 50 rfl
theorem w189 : (Jvm.Cond.classLink "QuotaPeers" (32 : Nat) "QuotaPeers$Message") ∈ lw_all := lw_g (lw_at lw_m1 56 rfl) rfl
theorem w190 : (Jvm.Cond.instantiable "QuotaPeers$Message" (15 : Nat)) ∈ lw_all := lw_g (lw_at lw_m1 57 rfl) rfl
theorem w191 : (Jvm.Cond.methodLinkNest "QuotaPeers" (34 : Nat) ({ cls := "QuotaPeers$Message", name := "<init>", desc := "()V" } : Jvm.MethodName) "QuotaPeers") ∈ lw_tbl := lw_at lw_m1 58 rfl
theorem w192 : (Jvm.Cond.instanceMethod ({ cls := "QuotaPeers$Message", name := "<init>", desc := "()V" } : Jvm.MethodName)) ∈ lw_all := lw_g (lw_at lw_m1 59 rfl) rfl
theorem w193 : (Jvm.Cond.code ({ cls := "QuotaPeers$Message", name := "<init>", desc := "()V" } : Jvm.MethodName) prog_6_method_1_code (1 : Nat) (Option.none : Option Jvm.ClassFile.FieldType)) ∈ lw_all := lw_g (lw_at lw_m1 60 rfl) rfl
theorem w194 : (Jvm.Cond.methodLink "QuotaPeers$Message" (3 : Nat) ({ cls := "java/lang/Object", name := "<init>", desc := "()V" } : Jvm.MethodName)) ∈ lw_all := lw_g (lw_at lw_m1 61 rfl) rfl
theorem w195 : (Jvm.Cond.methodLink "QuotaPeers$Message" (9 : Nat) ({ cls := "QuotaPeers$Command", name := "values", desc := "()[LQuotaPeers$Command;" } : Jvm.MethodName)) ∈ lw_all := lw_g (lw_at lw_m1 62 rfl) rfl
theorem w196 : (Jvm.Cond.static ({ cls := "QuotaPeers$Command", name := "values", desc := "()[LQuotaPeers$Command;" } : Jvm.MethodName)) ∈ lw_all := lw_g (lw_at lw_m1 63 rfl) rfl
theorem w197 : (Jvm.Cond.code ({ cls := "QuotaPeers$Command", name := "values", desc := "()[LQuotaPeers$Command;" } : Jvm.MethodName) prog_4_method_1_code (0 : Nat) (Option.some (Jvm.ClassFile.FieldType.array (Jvm.ClassFile.FieldType.object "QuotaPeers$Command")))) ∈ lw_all := lw_g (lw_at lw_m1 64 rfl) rfl
theorem w198 : (Jvm.Cond.fieldLink "QuotaPeers$Command" (21 : Nat) "QuotaPeers$Command" "$VALUES" "[LQuotaPeers$Command;") ∈ lw_all := lw_g (lw_at lw_m1 65 rfl) rfl
theorem w199 : (Jvm.Cond.laysStatic "QuotaPeers$Command" "$VALUES" "[LQuotaPeers$Command;") ∈ lw_tbl := lw_at lw_m1 66 rfl
theorem w200 : (Jvm.Cond.methodLink "QuotaPeers$Command" (25 : Nat) ({ cls := "[LQuotaPeers$Command;", name := "clone", desc := "()Ljava/lang/Object;" } : Jvm.MethodName)) ∈ lw_all := lw_g (lw_at lw_m1 67 rfl) rfl
theorem w201 : (Jvm.Cond.sameMethod "[LQuotaPeers$Command;" "java/lang/Object" "clone" "()Ljava/lang/Object;") ∈ lw_all := lw_g (lw_at lw_m1 68 rfl) rfl
theorem w202 : (Jvm.Cond.native ({ cls := "java/lang/Object", name := "clone", desc := "()Ljava/lang/Object;" } : Jvm.MethodName)) ∈ lw_all := lw_g (lw_at lw_m1 69 rfl) rfl
theorem w203 : (Jvm.Cond.instanceMethod ({ cls := "java/lang/Object", name := "clone", desc := "()Ljava/lang/Object;" } : Jvm.MethodName)) ∈ lw_all := lw_g (lw_at lw_m1 70 rfl) rfl
theorem w204 : (Jvm.Cond.selects "[LQuotaPeers$Command;" ({ cls := "[LQuotaPeers$Command;", name := "clone", desc := "()Ljava/lang/Object;" } : Jvm.MethodName) ({ cls := "java/lang/Object", name := "clone", desc := "()Ljava/lang/Object;" } : Jvm.MethodName)) ∈ lw_all := lw_g (lw_at lw_m1 71 rfl) rfl
theorem w205 : (Jvm.Cond.castable "[LQuotaPeers$Command;" "java/lang/Cloneable") ∈ lw_tbl := lw_at lw_m1 72 rfl
theorem w206 : (Jvm.Cond.arrayOver (Jvm.ClassFile.FieldType.object "QuotaPeers$Command")) ∈ lw_tbl := lw_at lw_m1 73 rfl
theorem w207 : (Jvm.Cond.classLink "QuotaPeers$Command" (26 : Nat) "[LQuotaPeers$Command;") ∈ lw_all := lw_g (lw_at lw_m1 74 rfl) rfl
theorem w208 : (Jvm.Cond.fieldLink "QuotaPeers$Message" (15 : Nat) "QuotaPeers$Message" "commands" "[LQuotaPeers$Command;") ∈ lw_all := lw_g (lw_at lw_m1 75 rfl) rfl
theorem w209 : (Jvm.Cond.fieldLink "QuotaPeers$Message" (31 : Nat) "QuotaPeers$Message" "cells" "[B") ∈ lw_all := lw_g (lw_at lw_m1 76 rfl) rfl
theorem w210 : (Jvm.Cond.fieldLinkNest "QuotaPeers" (214 : Nat) "QuotaPeers$Message" "cells" "[B" "QuotaPeers") ∈ lw_tbl := lw_at lw_m1 77 rfl
theorem w211 : (Jvm.Cond.fieldLink "QuotaPeers$Message" (117 : Nat) "QuotaPeers$Message" "size" "I") ∈ lw_all := lw_g (lw_at lw_m1 78 rfl) rfl
theorem w212 : (Jvm.Cond.fieldLink "QuotaPeers$Message" (35 : Nat) "QuotaPeers$Message" "flags" "I") ∈ lw_all := lw_g (lw_at lw_m1 79 rfl) rfl
theorem w213 : (Jvm.Cond.fieldLinkNest "QuotaPeers" (193 : Nat) "QuotaPeers$Message" "flags" "I" "QuotaPeers") ∈ lw_tbl := lw_at lw_m1 80 rfl
theorem w214 : (Jvm.Cond.fieldLink "QuotaPeers$Message" (100 : Nat) "QuotaPeers$Message" "command" "I") ∈ lw_all := lw_g (lw_at lw_m1 81 rfl) rfl
theorem w215 : (Jvm.Cond.fieldLinkNest "QuotaPeers" (196 : Nat) "QuotaPeers$Message" "command" "I" "QuotaPeers") ∈ lw_tbl := lw_at lw_m1 82 rfl
theorem w216 : (Jvm.Cond.fieldLinkNest "QuotaPeers" (199 : Nat) "QuotaPeers$Message" "application" "I" "QuotaPeers") ∈ lw_tbl := lw_at lw_m1 83 rfl
theorem w217 : (Jvm.Cond.fieldLink "QuotaPeers$Message" (103 : Nat) "QuotaPeers$Message" "application" "I") ∈ lw_all := lw_g (lw_at lw_m1 84 rfl) rfl
theorem w218 : (Jvm.Cond.fieldLinkNest "QuotaPeers" (202 : Nat) "QuotaPeers$Message" "hop" "I" "QuotaPeers") ∈ lw_tbl := lw_at lw_m1 85 rfl
theorem w219 : (Jvm.Cond.fieldLink "QuotaPeers$Message" (120 : Nat) "QuotaPeers$Message" "hop" "I") ∈ lw_all := lw_g (lw_at lw_m1 86 rfl) rfl
theorem w220 : (Jvm.Cond.fieldLinkNest "QuotaPeers" (205 : Nat) "QuotaPeers$Message" "end" "I" "QuotaPeers") ∈ lw_tbl := lw_at lw_m1 87 rfl
theorem w221 : (Jvm.Cond.fieldLink "QuotaPeers$Message" (123 : Nat) "QuotaPeers$Message" "end" "I") ∈ lw_all := lw_g (lw_at lw_m1 88 rfl) rfl
theorem w222 : (Jvm.Cond.fieldLink "QuotaPeers$Message" (21 : Nat) "QuotaPeers$Message" "codes" "[I") ∈ lw_all := lw_g (lw_at lw_m1 89 rfl) rfl
theorem w223 : (Jvm.Cond.fieldLinkNest "QuotaPeers" (407 : Nat) "QuotaPeers$Message" "codes" "[I" "QuotaPeers") ∈ lw_tbl := lw_at lw_m1 90 rfl
theorem w224 : (Jvm.Cond.fieldLink "QuotaPeers$Message" (25 : Nat) "QuotaPeers$Message" "froms" "[I") ∈ lw_all := lw_g (lw_at lw_m1 91 rfl) rfl
theorem w225 : (Jvm.Cond.fieldLinkNest "QuotaPeers" (215 : Nat) "QuotaPeers$Message" "froms" "[I" "QuotaPeers") ∈ lw_tbl := lw_at lw_m1 92 rfl
theorem w226 : (Jvm.Cond.fieldLink "QuotaPeers$Message" (28 : Nat) "QuotaPeers$Message" "sizes" "[I") ∈ lw_all := lw_g (lw_at lw_m1 93 rfl) rfl
theorem w227 : (Jvm.Cond.fieldLinkNest "QuotaPeers" (219 : Nat) "QuotaPeers$Message" "sizes" "[I" "QuotaPeers") ∈ lw_tbl := lw_at lw_m1 94 rfl
theorem w228 : (Jvm.Cond.fieldLink "QuotaPeers$Message" (68 : Nat) "QuotaPeers$Message" "count" "I") ∈ lw_all := lw_g (lw_at lw_m1 95 rfl) rfl
theorem w229 : (Jvm.Cond.fieldLinkNest "QuotaPeers" (404 : Nat) "QuotaPeers$Message" "count" "I" "QuotaPeers") ∈ lw_tbl := lw_at lw_m1 96 rfl
theorem w230 : (Jvm.Cond.fieldLink "QuotaPeers$Message" (39 : Nat) "QuotaPeers$Message" "wrong" "I") ∈ lw_all := lw_g (lw_at lw_m1 97 rfl) rfl
theorem w231 : (Jvm.Cond.fieldLinkNest "QuotaPeers" (226 : Nat) "QuotaPeers$Message" "wrong" "I" "QuotaPeers") ∈ lw_tbl := lw_at lw_m1 98 rfl
theorem w232 : (Jvm.Cond.fieldLink "QuotaPeers$Message" (42 : Nat) "QuotaPeers$Message" "wrongCode" "I") ∈ lw_all := lw_g (lw_at lw_m1 99 rfl) rfl
theorem w233 : (Jvm.Cond.fieldLinkNest "QuotaPeers" (237 : Nat) "QuotaPeers$Message" "wrongCode" "I" "QuotaPeers") ∈ lw_tbl := lw_at lw_m1 100 rfl
theorem w234 : (Jvm.Cond.fieldLink "QuotaPeers$Message" (86 : Nat) "QuotaPeers$Message" "foundSize" "I") ∈ lw_all := lw_g (lw_at lw_m1 101 rfl) rfl
theorem w235 : (Jvm.Cond.fieldLinkNest "QuotaPeers" (545 : Nat) "QuotaPeers$Message" "foundSize" "I" "QuotaPeers") ∈ lw_tbl := lw_at lw_m1 102 rfl
theorem w267 : (Jvm.Cond.arrayClass Jvm.ClassFile.FieldType.int) ∈ lw_all := lw_g (lw_at lw_m1 134 rfl) rfl
theorem w268 : (Jvm.Cond.classLink "QuotaPeers" (39 : Nat) "QuotaPeers$Link") ∈ lw_all := lw_g (lw_at lw_m1 135 rfl) rfl
theorem w269 : (Jvm.Cond.arrayOver (Jvm.ClassFile.FieldType.object "QuotaPeers$Link")) ∈ lw_tbl := lw_at lw_m1 136 rfl
theorem w270 : (Jvm.Cond.classLink "QuotaPeers" (45 : Nat) "QuotaPeers$Peer") ∈ lw_all := lw_g (lw_at lw_m1 137 rfl) rfl
theorem w271 : (Jvm.Cond.arrayOver (Jvm.ClassFile.FieldType.object "QuotaPeers$Peer")) ∈ lw_tbl := lw_at lw_m1 138 rfl
theorem w272 : (Jvm.Cond.classLink "QuotaPeers" (51 : Nat) "QuotaPeers$Account") ∈ lw_all := lw_g (lw_at lw_m1 139 rfl) rfl
theorem w273 : (Jvm.Cond.arrayOver (Jvm.ClassFile.FieldType.object "QuotaPeers$Account")) ∈ lw_tbl := lw_at lw_m1 140 rfl
theorem w274 : (Jvm.Cond.classLink "QuotaPeers" (57 : Nat) "QuotaPeers$Session") ∈ lw_all := lw_g (lw_at lw_m1 141 rfl) rfl
theorem w275 : (Jvm.Cond.arrayOver (Jvm.ClassFile.FieldType.object "QuotaPeers$Session")) ∈ lw_tbl := lw_at lw_m1 142 rfl
theorem w276 : (Jvm.Cond.classLink "QuotaPeers" (63 : Nat) "QuotaPeers$Question") ∈ lw_all := lw_g (lw_at lw_m1 143 rfl) rfl
theorem w277 : (Jvm.Cond.arrayOver (Jvm.ClassFile.FieldType.object "QuotaPeers$Question")) ∈ lw_tbl := lw_at lw_m1 144 rfl
theorem w278 : (Jvm.Cond.classLink "QuotaPeers" (69 : Nat) "QuotaPeers$Answer") ∈ lw_all := lw_g (lw_at lw_m1 145 rfl) rfl
theorem w279 : (Jvm.Cond.arrayOver (Jvm.ClassFile.FieldType.object "QuotaPeers$Answer")) ∈ lw_tbl := lw_at lw_m1 146 rfl
theorem w280 : (Jvm.Cond.methodLink "QuotaPeers" (75 : Nat) ({ cls := "QuotaPeers$Text", name := "set", desc := "(IIIIII)V" } : Jvm.MethodName)) ∈ lw_all := lw_g (lw_at lw_m1 147 rfl) rfl
theorem w281 : (Jvm.Cond.instanceMethod ({ cls := "QuotaPeers$Text", name := "set", desc := "(IIIIII)V" } : Jvm.MethodName)) ∈ lw_all := lw_g (lw_at lw_m1 148 rfl) rfl
theorem w282 : (Jvm.Cond.selects "QuotaPeers$Text" ({ cls := "QuotaPeers$Text", name := "set", desc := "(IIIIII)V" } : Jvm.MethodName) ({ cls := "QuotaPeers$Text", name := "set", desc := "(IIIIII)V" } : Jvm.MethodName)) ∈ lw_all := lw_g (lw_at lw_m1 149 rfl) rfl
theorem w283 : (Jvm.Cond.code ({ cls := "QuotaPeers$Text", name := "set", desc := "(IIIIII)V" } : Jvm.MethodName) prog_11_method_9_code (7 : Nat) (Option.none : Option Jvm.ClassFile.FieldType)) ∈ lw_all := lw_g (lw_at lw_m1 150 rfl) rfl
theorem w284 : (Jvm.Cond.methodLink "QuotaPeers$Text" (23 : Nat) ({ cls := "QuotaPeers$Text", name := "clear", desc := "()V" } : Jvm.MethodName)) ∈ lw_all := lw_g (lw_at lw_m1 151 rfl) rfl
theorem w285 : (Jvm.Cond.instanceMethod ({ cls := "QuotaPeers$Text", name := "clear", desc := "()V" } : Jvm.MethodName)) ∈ lw_all := lw_g (lw_at lw_m1 152 rfl) rfl
theorem w286 : (Jvm.Cond.selects "QuotaPeers$Text" ({ cls := "QuotaPeers$Text", name := "clear", desc := "()V" } : Jvm.MethodName) ({ cls := "QuotaPeers$Text", name := "clear", desc := "()V" } : Jvm.MethodName)) ∈ lw_all := lw_g (lw_at lw_m1 153 rfl) rfl
theorem w287 : (Jvm.Cond.code ({ cls := "QuotaPeers$Text", name := "clear", desc := "()V" } : Jvm.MethodName) prog_11_method_2_code (1 : Nat) (Option.none : Option Jvm.ClassFile.FieldType)) ∈ lw_all := lw_g (lw_at lw_m1 154 rfl) rfl
theorem w288 : (Jvm.Cond.methodLink "QuotaPeers$Text" (26 : Nat) ({ cls := "QuotaPeers$Text", name := "add", desc := "(I)V" } : Jvm.MethodName)) ∈ lw_all := lw_g (lw_at lw_m1 155 rfl) rfl
theorem w289 : (Jvm.Cond.instanceMethod ({ cls := "QuotaPeers$Text", name := "add", desc := "(I)V" } : Jvm.MethodName)) ∈ lw_all := lw_g (lw_at lw_m1 156 rfl) rfl
theorem w290 : (Jvm.Cond.selects "QuotaPeers$Text" ({ cls := "QuotaPeers$Text", name := "add", desc := "(I)V" } : Jvm.MethodName) ({ cls := "QuotaPeers$Text", name := "add", desc := "(I)V" } : Jvm.MethodName)) ∈ lw_all := lw_g (lw_at lw_m1 157 rfl) rfl
theorem w291 : (Jvm.Cond.code ({ cls := "QuotaPeers$Text", name := "add", desc := "(I)V" } : Jvm.MethodName) prog_11_method_3_code (2 : Nat) (Option.none : Option Jvm.ClassFile.FieldType)) ∈ lw_all := lw_g (lw_at lw_m1 158 rfl) rfl
theorem w292 : (Jvm.Cond.instantiable "QuotaPeers$Link" (9 : Nat)) ∈ lw_all := lw_g (lw_at lw_m1 159 rfl) rfl
theorem w293 : (Jvm.Cond.methodLink "QuotaPeers" (79 : Nat) ({ cls := "QuotaPeers$Link", name := "<init>", desc := "(I)V" } : Jvm.MethodName)) ∈ lw_all := lw_g (lw_at lw_m1 160 rfl) rfl
theorem w294 : (Jvm.Cond.instanceMethod ({ cls := "QuotaPeers$Link", name := "<init>", desc := "(I)V" } : Jvm.MethodName)) ∈ lw_all := lw_g (lw_at lw_m1 161 rfl) rfl
theorem w295 : (Jvm.Cond.code ({ cls := "QuotaPeers$Link", name := "<init>", desc := "(I)V" } : Jvm.MethodName) prog_5_method_1_code (2 : Nat) (Option.none : Option Jvm.ClassFile.FieldType)) ∈ lw_all := lw_g (lw_at lw_m1 162 rfl) rfl
theorem w296 : (Jvm.Cond.methodLink "QuotaPeers$Link" (3 : Nat) ({ cls := "java/lang/Object", name := "<init>", desc := "()V" } : Jvm.MethodName)) ∈ lw_all := lw_g (lw_at lw_m1 163 rfl) rfl
theorem w297 : (Jvm.Cond.fieldLink "QuotaPeers$Link" (18 : Nat) "QuotaPeers$Link" "number" "I") ∈ lw_all := lw_g (lw_at lw_m1 164 rfl) rfl
theorem w298 : (Jvm.Cond.fieldLinkNest "QuotaPeers" (330 : Nat) "QuotaPeers$Link" "number" "I" "QuotaPeers") ∈ lw_tbl := lw_at lw_m1 165 rfl
theorem w299 : (Jvm.Cond.fieldLink "QuotaPeers$Link" (22 : Nat) "QuotaPeers$Link" "state" "I") ∈ lw_all := lw_g (lw_at lw_m1 166 rfl) rfl
theorem w300 : (Jvm.Cond.fieldLinkNest "QuotaPeers" (123 : Nat) "QuotaPeers$Link" "state" "I" "QuotaPeers") ∈ lw_tbl := lw_at lw_m1 167 rfl
theorem w301 : (Jvm.Cond.fieldLink "QuotaPeers$Link" (25 : Nat) "QuotaPeers$Link" "owner" "LQuotaPeers$Peer;") ∈ lw_all := lw_g (lw_at lw_m1 168 rfl) rfl
theorem w302 : (Jvm.Cond.fieldLinkNest "QuotaPeers" (308 : Nat) "QuotaPeers$Link" "owner" "LQuotaPeers$Peer;" "QuotaPeers") ∈ lw_tbl := lw_at lw_m1 169 rfl
theorem w303 : (Jvm.Cond.fieldLink "QuotaPeers$Link" (29 : Nat) "QuotaPeers$Link" "own" "Z") ∈ lw_all := lw_g (lw_at lw_m1 170 rfl) rfl
theorem w304 : (Jvm.Cond.fieldLinkNest "QuotaPeers" (312 : Nat) "QuotaPeers$Link" "own" "Z" "QuotaPeers") ∈ lw_tbl := lw_at lw_m1 171 rfl
theorem w305 : (Jvm.Cond.fieldLink "QuotaPeers$Link" (9 : Nat) "QuotaPeers$Link" "in" "[B") ∈ lw_all := lw_g (lw_at lw_m1 172 rfl) rfl
theorem w306 : (Jvm.Cond.fieldLinkNest "QuotaPeers" (354 : Nat) "QuotaPeers$Link" "in" "[B" "QuotaPeers") ∈ lw_tbl := lw_at lw_m1 173 rfl
theorem w307 : (Jvm.Cond.fieldLink "QuotaPeers$Link" (33 : Nat) "QuotaPeers$Link" "came" "I") ∈ lw_all := lw_g (lw_at lw_m1 174 rfl) rfl
theorem w308 : (Jvm.Cond.fieldLinkNest "QuotaPeers" (357 : Nat) "QuotaPeers$Link" "came" "I" "QuotaPeers") ∈ lw_tbl := lw_at lw_m1 175 rfl
theorem w309 : (Jvm.Cond.fieldLink "QuotaPeers$Link" (15 : Nat) "QuotaPeers$Link" "queue" "[B") ∈ lw_all := lw_g (lw_at lw_m1 176 rfl) rfl
theorem w310 : (Jvm.Cond.fieldLink "QuotaPeers$Link" (36 : Nat) "QuotaPeers$Link" "first" "I") ∈ lw_all := lw_g (lw_at lw_m1 177 rfl) rfl
theorem w311 : (Jvm.Cond.fieldLink "QuotaPeers$Link" (39 : Nat) "QuotaPeers$Link" "waiting" "I") ∈ lw_all := lw_g (lw_at lw_m1 178 rfl) rfl
theorem w312 : (Jvm.Cond.fieldLinkNest "QuotaPeers" (646 : Nat) "QuotaPeers$Link" "waiting" "I" "QuotaPeers") ∈ lw_tbl := lw_at lw_m1 179 rfl
theorem w332 : (Jvm.Cond.instantiable "QuotaPeers$Session" (8 : Nat)) ∈ lw_all := lw_g (lw_at lw_m1 199 rfl) rfl
theorem w333 : (Jvm.Cond.methodLinkNest "QuotaPeers" (82 : Nat) ({ cls := "QuotaPeers$Session", name := "<init>", desc := "()V" } : Jvm.MethodName) "QuotaPeers") ∈ lw_tbl := lw_at lw_m1 200 rfl
theorem w334 : (Jvm.Cond.instanceMethod ({ cls := "QuotaPeers$Session", name := "<init>", desc := "()V" } : Jvm.MethodName)) ∈ lw_all := lw_g (lw_at lw_m1 201 rfl) rfl
theorem w335 : (Jvm.Cond.code ({ cls := "QuotaPeers$Session", name := "<init>", desc := "()V" } : Jvm.MethodName) prog_10_method_1_code (1 : Nat) (Option.none : Option Jvm.ClassFile.FieldType)) ∈ lw_all := lw_g (lw_at lw_m1 202 rfl) rfl
theorem w336 : (Jvm.Cond.methodLink "QuotaPeers$Session" (1 : Nat) ({ cls := "java/lang/Object", name := "<init>", desc := "()V" } : Jvm.MethodName)) ∈ lw_all := lw_g (lw_at lw_m1 203 rfl) rfl
theorem w337 : (Jvm.Cond.classLink "QuotaPeers$Session" (7 : Nat) "QuotaPeers$Text") ∈ lw_all := lw_g (lw_at lw_m1 204 rfl) rfl
theorem w338 : (Jvm.Cond.methodLinkNest "QuotaPeers$Session" (9 : Nat) ({ cls := "QuotaPeers$Text", name := "<init>", desc := "()V" } : Jvm.MethodName) "QuotaPeers") ∈ lw_tbl := lw_at lw_m1 205 rfl
theorem w339 : (Jvm.Cond.fieldLink "QuotaPeers$Session" (10 : Nat) "QuotaPeers$Session" "name" "LQuotaPeers$Text;") ∈ lw_all := lw_g (lw_at lw_m1 206 rfl) rfl
theorem w340 : (Jvm.Cond.fieldLinkNest "QuotaPeers" (460 : Nat) "QuotaPeers$Session" "name" "LQuotaPeers$Text;" "QuotaPeers") ∈ lw_tbl := lw_at lw_m1 207 rfl
theorem w341 : (Jvm.Cond.fieldLink "QuotaPeers$Session" (16 : Nat) "QuotaPeers$Session" "host" "LQuotaPeers$Text;") ∈ lw_all := lw_g (lw_at lw_m1 208 rfl) rfl
theorem w342 : (Jvm.Cond.fieldLinkNest "QuotaPeers" (463 : Nat) "QuotaPeers$Session" "host" "LQuotaPeers$Text;" "QuotaPeers") ∈ lw_tbl := lw_at lw_m1 209 rfl
theorem w343 : (Jvm.Cond.fieldLink "QuotaPeers$Session" (19 : Nat) "QuotaPeers$Session" "realm" "LQuotaPeers$Text;") ∈ lw_all := lw_g (lw_at lw_m1 210 rfl) rfl
theorem w344 : (Jvm.Cond.fieldLinkNest "QuotaPeers" (464 : Nat) "QuotaPeers$Session" "realm" "LQuotaPeers$Text;" "QuotaPeers") ∈ lw_tbl := lw_at lw_m1 211 rfl
theorem w345 : (Jvm.Cond.fieldLink "QuotaPeers$Session" (22 : Nat) "QuotaPeers$Session" "account" "LQuotaPeers$Account;") ∈ lw_all := lw_g (lw_at lw_m1 212 rfl) rfl
theorem w346 : (Jvm.Cond.fieldLinkNest "QuotaPeers" (605 : Nat) "QuotaPeers$Session" "account" "LQuotaPeers$Account;" "QuotaPeers") ∈ lw_tbl := lw_at lw_m1 213 rfl
theorem w347 : (Jvm.Cond.fieldLink "QuotaPeers$Session" (26 : Nat) "QuotaPeers$Session" "grant" "J") ∈ lw_all := lw_g (lw_at lw_m1 214 rfl) rfl
theorem w348 : (Jvm.Cond.fieldLinkNest "QuotaPeers" (520 : Nat) "QuotaPeers$Session" "grant" "J" "QuotaPeers") ∈ lw_tbl := lw_at lw_m1 215 rfl
theorem w349 : (Jvm.Cond.fieldLinkNest "QuotaPeers" (579 : Nat) "QuotaPeers$Session" "count" "J" "QuotaPeers") ∈ lw_tbl := lw_at lw_m1 216 rfl
theorem w350 : (Jvm.Cond.fieldLinkNest "QuotaPeers" (458 : Nat) "QuotaPeers$Session" "peer" "I" "QuotaPeers") ∈ lw_tbl := lw_at lw_m1 217 rfl
theorem w351 : (Jvm.Cond.fieldLinkNest "QuotaPeers" (591 : Nat) "QuotaPeers$Session" "ends" "I" "QuotaPeers") ∈ lw_tbl := lw_at lw_m1 218 rfl
theorem w369 : (Jvm.Cond.instantiable "QuotaPeers$Question" (8 : Nat)) ∈ lw_all := lw_g (lw_at lw_m1 236 rfl) rfl
theorem w370 : (Jvm.Cond.methodLinkNest "QuotaPeers" (83 : Nat) ({ cls := "QuotaPeers$Question", name := "<init>", desc := "()V" } : Jvm.MethodName) "QuotaPeers") ∈ lw_tbl := lw_at lw_m1 237 rfl
theorem w371 : (Jvm.Cond.instanceMethod ({ cls := "QuotaPeers$Question", name := "<init>", desc := "()V" } : Jvm.MethodName)) ∈ lw_all := lw_g (lw_at lw_m1 238 rfl) rfl
theorem w372 : (Jvm.Cond.code ({ cls := "QuotaPeers$Question", name := "<init>", desc := "()V" } : Jvm.MethodName) prog_9_method_1_code (1 : Nat) (Option.none : Option Jvm.ClassFile.FieldType)) ∈ lw_all := lw_g (lw_at lw_m1 239 rfl) rfl
theorem w373 : (Jvm.Cond.methodLink "QuotaPeers$Question" (1 : Nat) ({ cls := "java/lang/Object", name := "<init>", desc := "()V" } : Jvm.MethodName)) ∈ lw_all := lw_g (lw_at lw_m2 0 rfl) rfl
theorem w374 : (Jvm.Cond.classLink "QuotaPeers$Question" (7 : Nat) "QuotaPeers$Text") ∈ lw_all := lw_g (lw_at lw_m2 1 rfl) rfl
theorem w375 : (Jvm.Cond.methodLinkNest "QuotaPeers$Question" (9 : Nat) ({ cls := "QuotaPeers$Text", name := "<init>", desc := "()V" } : Jvm.MethodName) "QuotaPeers") ∈ lw_tbl := lw_at lw_m2 2 rfl
theorem w376 : (Jvm.Cond.fieldLink "QuotaPeers$Question" (10 : Nat) "QuotaPeers$Question" "session" "LQuotaPeers$Text;") ∈ lw_all := lw_g (lw_at lw_m2 3 rfl) rfl
theorem w377 : (Jvm.Cond.fieldLinkNest "QuotaPeers" (450 : Nat) "QuotaPeers$Question" "session" "LQuotaPeers$Text;" "QuotaPeers") ∈ lw_tbl := lw_at lw_m2 4 rfl
theorem w378 : (Jvm.Cond.fieldLink "QuotaPeers$Question" (16 : Nat) "QuotaPeers$Question" "host" "LQuotaPeers$Text;") ∈ lw_all := lw_g (lw_at lw_m2 5 rfl) rfl
theorem w379 : (Jvm.Cond.fieldLinkNest "QuotaPeers" (454 : Nat) "QuotaPeers$Question" "host" "LQuotaPeers$Text;" "QuotaPeers") ∈ lw_tbl := lw_at lw_m2 6 rfl
theorem w380 : (Jvm.Cond.fieldLink "QuotaPeers$Question" (19 : Nat) "QuotaPeers$Question" "realm" "LQuotaPeers$Text;") ∈ lw_all := lw_g (lw_at lw_m2 7 rfl) rfl
theorem w381 : (Jvm.Cond.fieldLinkNest "QuotaPeers" (453 : Nat) "QuotaPeers$Question" "realm" "LQuotaPeers$Text;" "QuotaPeers") ∈ lw_tbl := lw_at lw_m2 8 rfl
theorem w382 : (Jvm.Cond.fieldLinkNest "QuotaPeers" (436 : Nat) "QuotaPeers$Question" "result" "J" "QuotaPeers") ∈ lw_tbl := lw_at lw_m2 9 rfl
theorem w383 : (Jvm.Cond.fieldLinkNest "QuotaPeers" (433 : Nat) "QuotaPeers$Question" "peer" "LQuotaPeers$Peer;" "QuotaPeers") ∈ lw_tbl := lw_at lw_m2 10 rfl
theorem w384 : (Jvm.Cond.fieldLinkNest "QuotaPeers" (446 : Nat) "QuotaPeers$Question" "sent" "I" "QuotaPeers") ∈ lw_tbl := lw_at lw_m2 11 rfl
theorem w385 : (Jvm.Cond.fieldLinkNest "QuotaPeers" (449 : Nat) "QuotaPeers$Question" "hop" "I" "QuotaPeers") ∈ lw_tbl := lw_at lw_m2 12 rfl
theorem w386 : (Jvm.Cond.fieldLinkNest "QuotaPeers" (445 : Nat) "QuotaPeers$Question" "end" "I" "QuotaPeers") ∈ lw_tbl := lw_at lw_m2 13 rfl
theorem w404 : (Jvm.Cond.instantiable "QuotaPeers$Answer" (5 : Nat)) ∈ lw_all := lw_g (lw_at lw_m2 31 rfl) rfl
theorem w405 : (Jvm.Cond.methodLinkNest "QuotaPeers" (84 : Nat) ({ cls := "QuotaPeers$Answer", name := "<init>", desc := "()V" } : Jvm.MethodName) "QuotaPeers") ∈ lw_tbl := lw_at lw_m2 32 rfl
theorem w406 : (Jvm.Cond.instanceMethod ({ cls := "QuotaPeers$Answer", name := "<init>", desc := "()V" } : Jvm.MethodName)) ∈ lw_all := lw_g (lw_at lw_m2 33 rfl) rfl
theorem w407 : (Jvm.Cond.code ({ cls := "QuotaPeers$Answer", name := "<init>", desc := "()V" } : Jvm.MethodName) prog_3_method_1_code (1 : Nat) (Option.none : Option Jvm.ClassFile.FieldType)) ∈ lw_all := lw_g (lw_at lw_m2 34 rfl) rfl
theorem w408 : (Jvm.Cond.methodLink "QuotaPeers$Answer" (1 : Nat) ({ cls := "java/lang/Object", name := "<init>", desc := "()V" } : Jvm.MethodName)) ∈ lw_all := lw_g (lw_at lw_m2 35 rfl) rfl
theorem w409 : (Jvm.Cond.classLink "QuotaPeers$Answer" (7 : Nat) "QuotaPeers$Text") ∈ lw_all := lw_g (lw_at lw_m2 36 rfl) rfl
theorem w410 : (Jvm.Cond.methodLinkNest "QuotaPeers$Answer" (9 : Nat) ({ cls := "QuotaPeers$Text", name := "<init>", desc := "()V" } : Jvm.MethodName) "QuotaPeers") ∈ lw_tbl := lw_at lw_m2 37 rfl
theorem w411 : (Jvm.Cond.fieldLink "QuotaPeers$Answer" (10 : Nat) "QuotaPeers$Answer" "host" "LQuotaPeers$Text;") ∈ lw_all := lw_g (lw_at lw_m2 38 rfl) rfl
theorem w412 : (Jvm.Cond.fieldLinkNest "QuotaPeers" (490 : Nat) "QuotaPeers$Answer" "host" "LQuotaPeers$Text;" "QuotaPeers") ∈ lw_tbl := lw_at lw_m2 39 rfl
theorem w413 : (Jvm.Cond.fieldLinkNest "QuotaPeers" (489 : Nat) "QuotaPeers$Answer" "end" "I" "QuotaPeers") ∈ lw_tbl := lw_at lw_m2 40 rfl
theorem w414 : (Jvm.Cond.fieldLinkNest "QuotaPeers" (480 : Nat) "QuotaPeers$Answer" "time" "I" "QuotaPeers") ∈ lw_tbl := lw_at lw_m2 41 rfl
theorem w415 : (Jvm.Cond.fieldLink "QuotaPeers$Answer" (16 : Nat) "QuotaPeers$Answer" "cells" "[B") ∈ lw_all := lw_g (lw_at lw_m2 42 rfl) rfl
theorem w416 : (Jvm.Cond.fieldLinkNest "QuotaPeers" (495 : Nat) "QuotaPeers$Answer" "cells" "[B" "QuotaPeers") ∈ lw_tbl := lw_at lw_m2 43 rfl
theorem w417 : (Jvm.Cond.fieldLinkNest "QuotaPeers" (494 : Nat) "QuotaPeers$Answer" "size" "I" "QuotaPeers") ∈ lw_tbl := lw_at lw_m2 44 rfl
theorem w429 : (Jvm.Cond.fieldLink "QuotaPeers" (10 : Nat) "QuotaPeers" "at" "LQuotaPeers$Text;") ∈ lw_all := lw_g (lw_at lw_m2 56 rfl) rfl
theorem w430 : (Jvm.Cond.fieldLink "QuotaPeers" (16 : Nat) "QuotaPeers" "host" "LQuotaPeers$Text;") ∈ lw_all := lw_g (lw_at lw_m2 57 rfl) rfl
theorem w431 : (Jvm.Cond.fieldLink "QuotaPeers" (19 : Nat) "QuotaPeers" "realm" "LQuotaPeers$Text;") ∈ lw_all := lw_g (lw_at lw_m2 58 rfl) rfl
theorem w432 : (Jvm.Cond.fieldLink "QuotaPeers" (22 : Nat) "QuotaPeers" "product" "LQuotaPeers$Text;") ∈ lw_all := lw_g (lw_at lw_m2 59 rfl) rfl
theorem w433 : (Jvm.Cond.fieldLink "QuotaPeers" (28 : Nat) "QuotaPeers" "page" "LQuotaPeers$Page;") ∈ lw_all := lw_g (lw_at lw_m2 60 rfl) rfl
theorem w434 : (Jvm.Cond.fieldLink "QuotaPeers" (35 : Nat) "QuotaPeers" "message" "LQuotaPeers$Message;") ∈ lw_all := lw_g (lw_at lw_m2 61 rfl) rfl
theorem w435 : (Jvm.Cond.fieldLink "QuotaPeers" (41 : Nat) "QuotaPeers" "links" "[LQuotaPeers$Link;") ∈ lw_all := lw_g (lw_at lw_m2 62 rfl) rfl
theorem w436 : (Jvm.Cond.fieldLink "QuotaPeers" (47 : Nat) "QuotaPeers" "peers" "[LQuotaPeers$Peer;") ∈ lw_all := lw_g (lw_at lw_m2 63 rfl) rfl
theorem w437 : (Jvm.Cond.fieldLink "QuotaPeers" (99 : Nat) "QuotaPeers" "peerCount" "I") ∈ lw_all := lw_g (lw_at lw_m2 64 rfl) rfl
theorem w438 : (Jvm.Cond.fieldLink "QuotaPeers" (53 : Nat) "QuotaPeers" "accounts" "[LQuotaPeers$Account;") ∈ lw_all := lw_g (lw_at lw_m2 65 rfl) rfl
theorem w439 : (Jvm.Cond.fieldLink "QuotaPeers" (540 : Nat) "QuotaPeers" "accountCount" "I") ∈ lw_all := lw_g (lw_at lw_m2 66 rfl) rfl
theorem w440 : (Jvm.Cond.fieldLink "QuotaPeers" (59 : Nat) "QuotaPeers" "sessions" "[LQuotaPeers$Session;") ∈ lw_all := lw_g (lw_at lw_m2 67 rfl) rfl
theorem w441 : (Jvm.Cond.fieldLink "QuotaPeers" (455 : Nat) "QuotaPeers" "sessionCount" "I") ∈ lw_all := lw_g (lw_at lw_m2 68 rfl) rfl
theorem w442 : (Jvm.Cond.fieldLink "QuotaPeers" (65 : Nat) "QuotaPeers" "asks" "[LQuotaPeers$Question;") ∈ lw_all := lw_g (lw_at lw_m2 69 rfl) rfl
theorem w443 : (Jvm.Cond.fieldLink "QuotaPeers" (430 : Nat) "QuotaPeers" "askCount" "I") ∈ lw_all := lw_g (lw_at lw_m2 70 rfl) rfl
theorem w444 : (Jvm.Cond.fieldLink "QuotaPeers" (71 : Nat) "QuotaPeers" "keeps" "[LQuotaPeers$Answer;") ∈ lw_all := lw_g (lw_at lw_m2 71 rfl) rfl
theorem w445 : (Jvm.Cond.fieldLink "QuotaPeers" (477 : Nat) "QuotaPeers" "keepCount" "I") ∈ lw_all := lw_g (lw_at lw_m2 72 rfl) rfl
theorem w446 : (Jvm.Cond.fieldLink "QuotaPeers" (111 : Nat) "QuotaPeers" "now" "I") ∈ lw_all := lw_g (lw_at lw_m2 73 rfl) rfl
theorem w447 : (Jvm.Cond.fieldLink "QuotaPeers" (141 : Nat) "QuotaPeers" "hops" "I") ∈ lw_all := lw_g (lw_at lw_m2 74 rfl) rfl
theorem w448 : (Jvm.Cond.fieldLink "QuotaPeers" (138 : Nat) "QuotaPeers" "lost" "I") ∈ lw_all := lw_g (lw_at lw_m2 75 rfl) rfl
theorem w449 : (Jvm.Cond.fieldLink "QuotaPeers" (509 : Nat) "QuotaPeers" "granted" "LQuotaPeers$Session;") ∈ lw_all := lw_g (lw_at lw_m2 76 rfl) rfl
theorem w450 : (Jvm.Cond.fieldLink "QuotaPeers" (513 : Nat) "QuotaPeers" "enough" "I") ∈ lw_all := lw_g (lw_at lw_m2 77 rfl) rfl
theorem w496 : (Jvm.Cond.methodLink "QuotaPeersLaw" (13 : Nat) ({ cls := "QuotaPeers", name := "sign", desc := "(I)I" } : Jvm.MethodName)) ∈ lw_all := lw_g (lw_at lw_m2 123 rfl) rfl
theorem w497 : (Jvm.Cond.instanceMethod ({ cls := "QuotaPeers", name := "sign", desc := "(I)I" } : Jvm.MethodName)) ∈ lw_all := lw_g (lw_at lw_m2 124 rfl) rfl
theorem w498 : (Jvm.Cond.selects "QuotaPeers" ({ cls := "QuotaPeers", name := "sign", desc := "(I)I" } : Jvm.MethodName) ({ cls := "QuotaPeers", name := "sign", desc := "(I)I" } : Jvm.MethodName)) ∈ lw_all := lw_g (lw_at lw_m2 125 rfl) rfl
theorem w499 : (Jvm.Cond.code ({ cls := "QuotaPeers", name := "sign", desc := "(I)I" } : Jvm.MethodName) prog_1_method_4_code (5 : Nat) (Option.some Jvm.ClassFile.FieldType.int)) ∈ lw_all := lw_g (lw_at lw_m2 126 rfl) rfl
theorem w500 : (Jvm.Cond.methodLink "QuotaPeers" (85 : Nat) ({ cls := "QuotaPeers$Text", name := "clear", desc := "()V" } : Jvm.MethodName)) ∈ lw_all := lw_g (lw_at lw_m2 127 rfl) rfl
theorem w501 : (Jvm.Cond.methodLink "QuotaPeers" (88 : Nat) ({ cls := "QuotaPeers", name := "isLetter", desc := "(I)Z" } : Jvm.MethodName)) ∈ lw_all := lw_g (lw_at lw_m2 128 rfl) rfl
theorem w502 : (Jvm.Cond.static ({ cls := "QuotaPeers", name := "isLetter", desc := "(I)Z" } : Jvm.MethodName)) ∈ lw_all := lw_g (lw_at lw_m2 129 rfl) rfl
theorem w503 : (Jvm.Cond.code ({ cls := "QuotaPeers", name := "isLetter", desc := "(I)Z" } : Jvm.MethodName) prog_1_method_1_code (1 : Nat) (Option.some Jvm.ClassFile.FieldType.boolean)) ∈ lw_all := lw_g (lw_at lw_m2 130 rfl) rfl
theorem w504 : (Jvm.Cond.methodLink "QuotaPeers" (96 : Nat) ({ cls := "QuotaPeers$Text", name := "add", desc := "(I)V" } : Jvm.MethodName)) ∈ lw_all := lw_g (lw_at lw_m2 131 rfl) rfl
theorem w505 : (Jvm.Cond.methodLink "QuotaPeersLaw" (18 : Nat) ({ cls := "QuotaPeers", name := "own", desc := "()I" } : Jvm.MethodName)) ∈ lw_all := lw_g (lw_at lw_m2 132 rfl) rfl
theorem w506 : (Jvm.Cond.instanceMethod ({ cls := "QuotaPeers", name := "own", desc := "()I" } : Jvm.MethodName)) ∈ lw_all := lw_g (lw_at lw_m2 133 rfl) rfl
theorem w507 : (Jvm.Cond.selects "QuotaPeers" ({ cls := "QuotaPeers", name := "own", desc := "()I" } : Jvm.MethodName) ({ cls := "QuotaPeers", name := "own", desc := "()I" } : Jvm.MethodName)) ∈ lw_all := lw_g (lw_at lw_m2 134 rfl) rfl
theorem w508 : (Jvm.Cond.code ({ cls := "QuotaPeers", name := "own", desc := "()I" } : Jvm.MethodName) prog_1_method_5_code (1 : Nat) (Option.some Jvm.ClassFile.FieldType.int)) ∈ lw_all := lw_g (lw_at lw_m2 135 rfl) rfl
theorem w509 : (Jvm.Cond.methodLink "QuotaPeers" (102 : Nat) ({ cls := "QuotaPeers$Text", name := "copy", desc := "(LQuotaPeers$Text;)V" } : Jvm.MethodName)) ∈ lw_all := lw_g (lw_at lw_m2 136 rfl) rfl
theorem w510 : (Jvm.Cond.instanceMethod ({ cls := "QuotaPeers$Text", name := "copy", desc := "(LQuotaPeers$Text;)V" } : Jvm.MethodName)) ∈ lw_all := lw_g (lw_at lw_m2 137 rfl) rfl
theorem w511 : (Jvm.Cond.selects "QuotaPeers$Text" ({ cls := "QuotaPeers$Text", name := "copy", desc := "(LQuotaPeers$Text;)V" } : Jvm.MethodName) ({ cls := "QuotaPeers$Text", name := "copy", desc := "(LQuotaPeers$Text;)V" } : Jvm.MethodName)) ∈ lw_all := lw_g (lw_at lw_m2 138 rfl) rfl
theorem w512 : (Jvm.Cond.code ({ cls := "QuotaPeers$Text", name := "copy", desc := "(LQuotaPeers$Text;)V" } : Jvm.MethodName) prog_11_method_4_code (2 : Nat) (Option.none : Option Jvm.ClassFile.FieldType)) ∈ lw_all := lw_g (lw_at lw_m2 139 rfl) rfl
theorem w513 : (Jvm.Cond.methodLink "QuotaPeers$Text" (17 : Nat) ({ cls := "java/lang/System", name := "arraycopy", desc := "(Ljava/lang/Object;ILjava/lang/Object;II)V" } : Jvm.MethodName)) ∈ lw_all := lw_g (lw_at lw_m2 140 rfl) rfl
theorem w514 : (Jvm.Cond.static ({ cls := "java/lang/System", name := "arraycopy", desc := "(Ljava/lang/Object;ILjava/lang/Object;II)V" } : Jvm.MethodName)) ∈ lw_all := lw_g (lw_at lw_m2 141 rfl) rfl
theorem w515 : (Jvm.Cond.native ({ cls := "java/lang/System", name := "arraycopy", desc := "(Ljava/lang/Object;ILjava/lang/Object;II)V" } : Jvm.MethodName)) ∈ lw_all := lw_g (lw_at lw_m2 142 rfl) rfl
theorem w516 : (Jvm.Cond.methodLink "QuotaPeersLaw" (23 : Nat) ({ cls := "QuotaPeers", name := "peer", desc := "(Z)I" } : Jvm.MethodName)) ∈ lw_all := lw_g (lw_at lw_m2 143 rfl) rfl
theorem w517 : (Jvm.Cond.instanceMethod ({ cls := "QuotaPeers", name := "peer", desc := "(Z)I" } : Jvm.MethodName)) ∈ lw_all := lw_g (lw_at lw_m2 144 rfl) rfl
theorem w518 : (Jvm.Cond.selects "QuotaPeers" ({ cls := "QuotaPeers", name := "peer", desc := "(Z)I" } : Jvm.MethodName) ({ cls := "QuotaPeers", name := "peer", desc := "(Z)I" } : Jvm.MethodName)) ∈ lw_all := lw_g (lw_at lw_m2 145 rfl) rfl
theorem w519 : (Jvm.Cond.code ({ cls := "QuotaPeers", name := "peer", desc := "(Z)I" } : Jvm.MethodName) prog_1_method_6_code (4 : Nat) (Option.some Jvm.ClassFile.FieldType.int)) ∈ lw_all := lw_g (lw_at lw_m2 146 rfl) rfl
theorem w520 : (Jvm.Cond.methodLink "QuotaPeers" (106 : Nat) ({ cls := "QuotaPeers$Text", name := "isSame", desc := "(LQuotaPeers$Text;)Z" } : Jvm.MethodName)) ∈ lw_all := lw_g (lw_at lw_m2 147 rfl) rfl
theorem w521 : (Jvm.Cond.instanceMethod ({ cls := "QuotaPeers$Text", name := "isSame", desc := "(LQuotaPeers$Text;)Z" } : Jvm.MethodName)) ∈ lw_all := lw_g (lw_at lw_m2 148 rfl) rfl
theorem w522 : (Jvm.Cond.selects "QuotaPeers$Text" ({ cls := "QuotaPeers$Text", name := "isSame", desc := "(LQuotaPeers$Text;)Z" } : Jvm.MethodName) ({ cls := "QuotaPeers$Text", name := "isSame", desc := "(LQuotaPeers$Text;)Z" } : Jvm.MethodName)) ∈ lw_all := lw_g (lw_at lw_m2 149 rfl) rfl
theorem w523 : (Jvm.Cond.code ({ cls := "QuotaPeers$Text", name := "isSame", desc := "(LQuotaPeers$Text;)Z" } : Jvm.MethodName) prog_11_method_6_code (4 : Nat) (Option.some Jvm.ClassFile.FieldType.boolean)) ∈ lw_all := lw_g (lw_at lw_m2 150 rfl) rfl
theorem w524 : (Jvm.Cond.instantiable "QuotaPeers$Peer" (18 : Nat)) ∈ lw_all := lw_g (lw_at lw_m2 151 rfl) rfl
theorem w525 : (Jvm.Cond.methodLink "QuotaPeers" (114 : Nat) ({ cls := "QuotaPeers$Peer", name := "<init>", desc := "(IZI)V" } : Jvm.MethodName)) ∈ lw_all := lw_g (lw_at lw_m2 152 rfl) rfl
theorem w526 : (Jvm.Cond.instanceMethod ({ cls := "QuotaPeers$Peer", name := "<init>", desc := "(IZI)V" } : Jvm.MethodName)) ∈ lw_all := lw_g (lw_at lw_m2 153 rfl) rfl
theorem w527 : (Jvm.Cond.code ({ cls := "QuotaPeers$Peer", name := "<init>", desc := "(IZI)V" } : Jvm.MethodName) prog_8_method_1_code (4 : Nat) (Option.none : Option Jvm.ClassFile.FieldType)) ∈ lw_all := lw_g (lw_at lw_m2 154 rfl) rfl
theorem w528 : (Jvm.Cond.methodLink "QuotaPeers$Peer" (3 : Nat) ({ cls := "java/lang/Object", name := "<init>", desc := "()V" } : Jvm.MethodName)) ∈ lw_all := lw_g (lw_at lw_m2 155 rfl) rfl
theorem w529 : (Jvm.Cond.classLink "QuotaPeers$Peer" (9 : Nat) "QuotaPeers$Text") ∈ lw_all := lw_g (lw_at lw_m2 156 rfl) rfl
theorem w530 : (Jvm.Cond.methodLinkNest "QuotaPeers$Peer" (11 : Nat) ({ cls := "QuotaPeers$Text", name := "<init>", desc := "()V" } : Jvm.MethodName) "QuotaPeers") ∈ lw_tbl := lw_at lw_m2 157 rfl
theorem w531 : (Jvm.Cond.fieldLink "QuotaPeers$Peer" (18 : Nat) "QuotaPeers$Peer" "number" "I") ∈ lw_all := lw_g (lw_at lw_m2 158 rfl) rfl
theorem w532 : (Jvm.Cond.fieldLinkNest "QuotaPeers" (581 : Nat) "QuotaPeers$Peer" "number" "I" "QuotaPeers") ∈ lw_tbl := lw_at lw_m2 159 rfl
theorem w533 : (Jvm.Cond.fieldLink "QuotaPeers$Peer" (12 : Nat) "QuotaPeers$Peer" "host" "LQuotaPeers$Text;") ∈ lw_all := lw_g (lw_at lw_m2 160 rfl) rfl
theorem w534 : (Jvm.Cond.fieldLinkNest "QuotaPeers" (110 : Nat) "QuotaPeers$Peer" "host" "LQuotaPeers$Text;" "QuotaPeers") ∈ lw_tbl := lw_at lw_m2 161 rfl
theorem w535 : (Jvm.Cond.fieldLink "QuotaPeers$Peer" (22 : Nat) "QuotaPeers$Peer" "starts" "Z") ∈ lw_all := lw_g (lw_at lw_m2 162 rfl) rfl
theorem w536 : (Jvm.Cond.fieldLinkNest "QuotaPeers" (417 : Nat) "QuotaPeers$Peer" "starts" "Z" "QuotaPeers") ∈ lw_tbl := lw_at lw_m2 163 rfl
theorem w537 : (Jvm.Cond.fieldLink "QuotaPeers$Peer" (29 : Nat) "QuotaPeers$Peer" "state" "I") ∈ lw_all := lw_g (lw_at lw_m2 164 rfl) rfl
theorem w538 : (Jvm.Cond.fieldLinkNest "QuotaPeers" (263 : Nat) "QuotaPeers$Peer" "state" "I" "QuotaPeers") ∈ lw_tbl := lw_at lw_m2 165 rfl
theorem w539 : (Jvm.Cond.fieldLinkNest "QuotaPeers" (264 : Nat) "QuotaPeers$Peer" "limit" "I" "QuotaPeers") ∈ lw_tbl := lw_at lw_m2 166 rfl
theorem w540 : (Jvm.Cond.fieldLink "QuotaPeers$Peer" (39 : Nat) "QuotaPeers$Peer" "own" "LQuotaPeers$Link;") ∈ lw_all := lw_g (lw_at lw_m2 167 rfl) rfl
theorem w541 : (Jvm.Cond.fieldLinkNest "QuotaPeers" (174 : Nat) "QuotaPeers$Peer" "own" "LQuotaPeers$Link;" "QuotaPeers") ∈ lw_tbl := lw_at lw_m2 168 rfl
theorem w542 : (Jvm.Cond.fieldLink "QuotaPeers$Peer" (43 : Nat) "QuotaPeers$Peer" "came" "LQuotaPeers$Link;") ∈ lw_all := lw_g (lw_at lw_m2 169 rfl) rfl
theorem w543 : (Jvm.Cond.fieldLinkNest "QuotaPeers" (254 : Nat) "QuotaPeers$Peer" "came" "LQuotaPeers$Link;" "QuotaPeers") ∈ lw_tbl := lw_at lw_m2 170 rfl
theorem w544 : (Jvm.Cond.fieldLinkNest "QuotaPeers" (243 : Nat) "QuotaPeers$Peer" "cameFlags" "I" "QuotaPeers") ∈ lw_tbl := lw_at lw_m2 171 rfl
theorem w545 : (Jvm.Cond.fieldLinkNest "QuotaPeers" (246 : Nat) "QuotaPeers$Peer" "cameHop" "I" "QuotaPeers") ∈ lw_tbl := lw_at lw_m2 172 rfl
theorem w546 : (Jvm.Cond.fieldLinkNest "QuotaPeers" (249 : Nat) "QuotaPeers$Peer" "cameEnd" "I" "QuotaPeers") ∈ lw_tbl := lw_at lw_m2 173 rfl
theorem w547 : (Jvm.Cond.fieldLink "QuotaPeers$Peer" (36 : Nat) "QuotaPeers$Peer" "status" "I") ∈ lw_all := lw_g (lw_at lw_m2 174 rfl) rfl
theorem w548 : (Jvm.Cond.fieldLinkNest "QuotaPeers" (277 : Nat) "QuotaPeers$Peer" "status" "I" "QuotaPeers") ∈ lw_tbl := lw_at lw_m2 175 rfl
theorem w549 : (Jvm.Cond.fieldLinkNest "QuotaPeers" (185 : Nat) "QuotaPeers$Peer" "awaited" "Z" "QuotaPeers") ∈ lw_tbl := lw_at lw_m2 176 rfl
theorem w550 : (Jvm.Cond.fieldLink "QuotaPeers$Peer" (26 : Nat) "QuotaPeers$Peer" "due" "I") ∈ lw_all := lw_g (lw_at lw_m2 177 rfl) rfl
theorem w551 : (Jvm.Cond.fieldLinkNest "QuotaPeers" (274 : Nat) "QuotaPeers$Peer" "due" "I" "QuotaPeers") ∈ lw_tbl := lw_at lw_m2 178 rfl
theorem w552 : (Jvm.Cond.fieldLinkNest "QuotaPeers" (423 : Nat) "QuotaPeers$Peer" "overs" "I" "QuotaPeers") ∈ lw_tbl := lw_at lw_m2 179 rfl
theorem w553 : (Jvm.Cond.fieldLinkNest "QuotaPeers" (280 : Nat) "QuotaPeers$Peer" "answers" "I" "QuotaPeers") ∈ lw_tbl := lw_at lw_m2 180 rfl
theorem w554 : (Jvm.Cond.fieldLinkNest "QuotaPeers" (165 : Nat) "QuotaPeers$Peer" "openingHop" "I" "QuotaPeers") ∈ lw_tbl := lw_at lw_m2 181 rfl
theorem w555 : (Jvm.Cond.fieldLinkNest "QuotaPeers" (182 : Nat) "QuotaPeers$Peer" "watchHop" "I" "QuotaPeers") ∈ lw_tbl := lw_at lw_m2 182 rfl
theorem w556 : (Jvm.Cond.fieldLinkNest "QuotaPeers" (349 : Nat) "QuotaPeers$Peer" "endingHop" "I" "QuotaPeers") ∈ lw_tbl := lw_at lw_m2 183 rfl
theorem w594 : (Jvm.Cond.methodLink "QuotaPeersLaw" (28 : Nat) ({ cls := "QuotaPeers", name := "start", desc := "(I)I" } : Jvm.MethodName)) ∈ lw_all := lw_g (lw_at lw_m2 221 rfl) rfl
theorem w595 : (Jvm.Cond.instanceMethod ({ cls := "QuotaPeers", name := "start", desc := "(I)I" } : Jvm.MethodName)) ∈ lw_all := lw_g (lw_at lw_m2 222 rfl) rfl
theorem w596 : (Jvm.Cond.selects "QuotaPeers" ({ cls := "QuotaPeers", name := "start", desc := "(I)I" } : Jvm.MethodName) ({ cls := "QuotaPeers", name := "start", desc := "(I)I" } : Jvm.MethodName)) ∈ lw_all := lw_g (lw_at lw_m2 223 rfl) rfl
theorem w597 : (Jvm.Cond.code ({ cls := "QuotaPeers", name := "start", desc := "(I)I" } : Jvm.MethodName) prog_1_method_31_code (4 : Nat) (Option.some Jvm.ClassFile.FieldType.int)) ∈ lw_all := lw_g (lw_at lw_m2 224 rfl) rfl
theorem w598 : (Jvm.Cond.methodLink "QuotaPeers" (320 : Nat) ({ cls := "QuotaPeers", name := "peerAt", desc := "(I)LQuotaPeers$Peer;" } : Jvm.MethodName)) ∈ lw_all := lw_g (lw_at lw_m2 225 rfl) rfl
theorem w600 : (Jvm.Cond.instanceMethod ({ cls := "QuotaPeers", name := "peerAt", desc := "(I)LQuotaPeers$Peer;" } : Jvm.MethodName)) ∈ lw_all := lw_g (lw_at lw_m2 227 rfl) rfl
theorem w601 : (Jvm.Cond.code ({ cls := "QuotaPeers", name := "peerAt", desc := "(I)LQuotaPeers$Peer;" } : Jvm.MethodName) prog_1_method_7_code (2 : Nat) (Option.some (Jvm.ClassFile.FieldType.object "QuotaPeers$Peer"))) ∈ lw_all := lw_g (lw_at lw_m2 228 rfl) rfl
theorem w602 : (Jvm.Cond.methodLink "QuotaPeers" (117 : Nat) ({ cls := "QuotaPeers", name := "isIn", desc := "(JJJ)Z" } : Jvm.MethodName)) ∈ lw_all := lw_g (lw_at lw_m2 229 rfl) rfl
theorem w603 : (Jvm.Cond.static ({ cls := "QuotaPeers", name := "isIn", desc := "(JJJ)Z" } : Jvm.MethodName)) ∈ lw_all := lw_g (lw_at lw_m2 230 rfl) rfl
theorem w604 : (Jvm.Cond.code ({ cls := "QuotaPeers", name := "isIn", desc := "(JJJ)Z" } : Jvm.MethodName) prog_1_method_3_code (6 : Nat) (Option.some Jvm.ClassFile.FieldType.boolean)) ∈ lw_all := lw_g (lw_at lw_m2 231 rfl) rfl
theorem w605 : (Jvm.Cond.methodLink "QuotaPeers" (324 : Nat) ({ cls := "QuotaPeers", name := "spare", desc := "()LQuotaPeers$Link;" } : Jvm.MethodName)) ∈ lw_all := lw_g (lw_at lw_m2 232 rfl) rfl
theorem w607 : (Jvm.Cond.instanceMethod ({ cls := "QuotaPeers", name := "spare", desc := "()LQuotaPeers$Link;" } : Jvm.MethodName)) ∈ lw_all := lw_g (lw_at lw_m2 234 rfl) rfl
theorem w608 : (Jvm.Cond.code ({ cls := "QuotaPeers", name := "spare", desc := "()LQuotaPeers$Link;" } : Jvm.MethodName) prog_1_method_9_code (5 : Nat) (Option.some (Jvm.ClassFile.FieldType.object "QuotaPeers$Link"))) ∈ lw_all := lw_g (lw_at lw_m2 235 rfl) rfl
theorem w609 : (Jvm.Cond.methodLink "QuotaPeers" (327 : Nat) ({ cls := "QuotaPeers", name := "begin", desc := "(LQuotaPeers$Peer;LQuotaPeers$Link;)V" } : Jvm.MethodName)) ∈ lw_all := lw_g (lw_at lw_m2 236 rfl) rfl
theorem w611 : (Jvm.Cond.instanceMethod ({ cls := "QuotaPeers", name := "begin", desc := "(LQuotaPeers$Peer;LQuotaPeers$Link;)V" } : Jvm.MethodName)) ∈ lw_all := lw_g (lw_at lw_m2 238 rfl) rfl
theorem w612 : (Jvm.Cond.code ({ cls := "QuotaPeers", name := "begin", desc := "(LQuotaPeers$Peer;LQuotaPeers$Link;)V" } : Jvm.MethodName) prog_1_method_30_code (3 : Nat) (Option.none : Option Jvm.ClassFile.FieldType)) ∈ lw_all := lw_g (lw_at lw_m2 239 rfl) rfl
theorem w613 : (Jvm.Cond.methodLink "QuotaPeers" (317 : Nat) ({ cls := "QuotaPeers$Link", name := "begin", desc := "(ILQuotaPeers$Peer;)V" } : Jvm.MethodName)) ∈ lw_all := lw_g (lw_at lw_m3 0 rfl) rfl
theorem w614 : (Jvm.Cond.instanceMethod ({ cls := "QuotaPeers$Link", name := "begin", desc := "(ILQuotaPeers$Peer;)V" } : Jvm.MethodName)) ∈ lw_all := lw_g (lw_at lw_m3 1 rfl) rfl
theorem w615 : (Jvm.Cond.selects "QuotaPeers$Link" ({ cls := "QuotaPeers$Link", name := "begin", desc := "(ILQuotaPeers$Peer;)V" } : Jvm.MethodName) ({ cls := "QuotaPeers$Link", name := "begin", desc := "(ILQuotaPeers$Peer;)V" } : Jvm.MethodName)) ∈ lw_all := lw_g (lw_at lw_m3 2 rfl) rfl
theorem w616 : (Jvm.Cond.code ({ cls := "QuotaPeers$Link", name := "begin", desc := "(ILQuotaPeers$Peer;)V" } : Jvm.MethodName) prog_5_method_3_code (3 : Nat) (Option.none : Option Jvm.ClassFile.FieldType)) ∈ lw_all := lw_g (lw_at lw_m3 3 rfl) rfl
theorem w617 : (Jvm.Cond.methodLink "QuotaPeers" (295 : Nat) ({ cls := "QuotaPeers", name := "enter", desc := "(LQuotaPeers$Peer;I)V" } : Jvm.MethodName)) ∈ lw_all := lw_g (lw_at lw_m3 4 rfl) rfl
theorem w619 : (Jvm.Cond.instanceMethod ({ cls := "QuotaPeers", name := "enter", desc := "(LQuotaPeers$Peer;I)V" } : Jvm.MethodName)) ∈ lw_all := lw_g (lw_at lw_m3 6 rfl) rfl
theorem w620 : (Jvm.Cond.code ({ cls := "QuotaPeers", name := "enter", desc := "(LQuotaPeers$Peer;I)V" } : Jvm.MethodName) prog_1_method_23_code (4 : Nat) (Option.none : Option Jvm.ClassFile.FieldType)) ∈ lw_all := lw_g (lw_at lw_m3 7 rfl) rfl
theorem w621 : (Jvm.Cond.methodLink "QuotaPeers" (260 : Nat) ({ cls := "QuotaPeers$Peer", name := "isUp", desc := "()Z" } : Jvm.MethodName)) ∈ lw_all := lw_g (lw_at lw_m3 8 rfl) rfl
theorem w622 : (Jvm.Cond.instanceMethod ({ cls := "QuotaPeers$Peer", name := "isUp", desc := "()Z" } : Jvm.MethodName)) ∈ lw_all := lw_g (lw_at lw_m3 9 rfl) rfl
theorem w623 : (Jvm.Cond.selects "QuotaPeers$Peer" ({ cls := "QuotaPeers$Peer", name := "isUp", desc := "()Z" } : Jvm.MethodName) ({ cls := "QuotaPeers$Peer", name := "isUp", desc := "()Z" } : Jvm.MethodName)) ∈ lw_all := lw_g (lw_at lw_m3 10 rfl) rfl
theorem w624 : (Jvm.Cond.code ({ cls := "QuotaPeers$Peer", name := "isUp", desc := "()Z" } : Jvm.MethodName) prog_8_method_2_code (1 : Nat) (Option.some Jvm.ClassFile.FieldType.boolean)) ∈ lw_all := lw_g (lw_at lw_m3 11 rfl) rfl
theorem w625 : (Jvm.Cond.methodLink "QuotaPeers" (267 : Nat) ({ cls := "QuotaPeers", name := "leave", desc := "(LQuotaPeers$Peer;)V" } : Jvm.MethodName)) ∈ lw_all := lw_g (lw_at lw_m3 12 rfl) rfl
theorem w627 : (Jvm.Cond.instanceMethod ({ cls := "QuotaPeers", name := "leave", desc := "(LQuotaPeers$Peer;)V" } : Jvm.MethodName)) ∈ lw_all := lw_g (lw_at lw_m3 14 rfl) rfl
theorem w628 : (Jvm.Cond.code ({ cls := "QuotaPeers", name := "leave", desc := "(LQuotaPeers$Peer;)V" } : Jvm.MethodName) prog_1_method_25_code (2 : Nat) (Option.none : Option Jvm.ClassFile.FieldType)) ∈ lw_all := lw_g (lw_at lw_m3 15 rfl) rfl
theorem w629 : (Jvm.Cond.methodLink "QuotaPeers" (286 : Nat) ({ cls := "QuotaPeers", name := "giveOver", desc := "(LQuotaPeers$Peer;)V" } : Jvm.MethodName)) ∈ lw_all := lw_g (lw_at lw_m3 16 rfl) rfl
theorem w631 : (Jvm.Cond.instanceMethod ({ cls := "QuotaPeers", name := "giveOver", desc := "(LQuotaPeers$Peer;)V" } : Jvm.MethodName)) ∈ lw_all := lw_g (lw_at lw_m3 18 rfl) rfl
theorem w632 : (Jvm.Cond.code ({ cls := "QuotaPeers", name := "giveOver", desc := "(LQuotaPeers$Peer;)V" } : Jvm.MethodName) prog_1_method_45_code (5 : Nat) (Option.none : Option Jvm.ClassFile.FieldType)) ∈ lw_all := lw_g (lw_at lw_m3 19 rfl) rfl
theorem w633 : (Jvm.Cond.methodLink "QuotaPeers" (426 : Nat) ({ cls := "QuotaPeers", name := "usable", desc := "()LQuotaPeers$Peer;" } : Jvm.MethodName)) ∈ lw_all := lw_g (lw_at lw_m3 20 rfl) rfl
theorem w635 : (Jvm.Cond.instanceMethod ({ cls := "QuotaPeers", name := "usable", desc := "()LQuotaPeers$Peer;" } : Jvm.MethodName)) ∈ lw_all := lw_g (lw_at lw_m3 22 rfl) rfl
theorem w636 : (Jvm.Cond.code ({ cls := "QuotaPeers", name := "usable", desc := "()LQuotaPeers$Peer;" } : Jvm.MethodName) prog_1_method_44_code (2 : Nat) (Option.some (Jvm.ClassFile.FieldType.object "QuotaPeers$Peer"))) ∈ lw_all := lw_g (lw_at lw_m3 23 rfl) rfl
theorem w637 : (Jvm.Cond.methodLink "QuotaPeers" (420 : Nat) ({ cls := "QuotaPeers$Peer", name := "isUsable", desc := "()Z" } : Jvm.MethodName)) ∈ lw_all := lw_g (lw_at lw_m3 24 rfl) rfl
theorem w638 : (Jvm.Cond.instanceMethod ({ cls := "QuotaPeers$Peer", name := "isUsable", desc := "()Z" } : Jvm.MethodName)) ∈ lw_all := lw_g (lw_at lw_m3 25 rfl) rfl
theorem w639 : (Jvm.Cond.selects "QuotaPeers$Peer" ({ cls := "QuotaPeers$Peer", name := "isUsable", desc := "()Z" } : Jvm.MethodName) ({ cls := "QuotaPeers$Peer", name := "isUsable", desc := "()Z" } : Jvm.MethodName)) ∈ lw_all := lw_g (lw_at lw_m3 26 rfl) rfl
theorem w640 : (Jvm.Cond.code ({ cls := "QuotaPeers$Peer", name := "isUsable", desc := "()Z" } : Jvm.MethodName) prog_8_method_3_code (1 : Nat) (Option.some Jvm.ClassFile.FieldType.boolean)) ∈ lw_all := lw_g (lw_at lw_m3 27 rfl) rfl
theorem w641 : (Jvm.Cond.methodLink "QuotaPeers$Peer" (32 : Nat) ({ cls := "QuotaPeers$Peer", name := "isUp", desc := "()Z" } : Jvm.MethodName)) ∈ lw_all := lw_g (lw_at lw_m3 28 rfl) rfl
theorem w642 : (Jvm.Cond.methodLink "QuotaPeers" (440 : Nat) ({ cls := "QuotaPeers", name := "put", desc := "(LQuotaPeers$Question;LQuotaPeers$Peer;I)V" } : Jvm.MethodName)) ∈ lw_all := lw_g (lw_at lw_m3 29 rfl) rfl
theorem w644 : (Jvm.Cond.instanceMethod ({ cls := "QuotaPeers", name := "put", desc := "(LQuotaPeers$Question;LQuotaPeers$Peer;I)V" } : Jvm.MethodName)) ∈ lw_all := lw_g (lw_at lw_m3 31 rfl) rfl
theorem w645 : (Jvm.Cond.code ({ cls := "QuotaPeers", name := "put", desc := "(LQuotaPeers$Question;LQuotaPeers$Peer;I)V" } : Jvm.MethodName) prog_1_method_46_code (4 : Nat) (Option.none : Option Jvm.ClassFile.FieldType)) ∈ lw_all := lw_g (lw_at lw_m3 32 rfl) rfl
theorem w646 : (Jvm.Cond.methodLink "QuotaPeers" (161 : Nat) ({ cls := "QuotaPeers", name := "request", desc := "(IIII)V" } : Jvm.MethodName)) ∈ lw_all := lw_g (lw_at lw_m3 33 rfl) rfl
theorem w648 : (Jvm.Cond.instanceMethod ({ cls := "QuotaPeers", name := "request", desc := "(IIII)V" } : Jvm.MethodName)) ∈ lw_all := lw_g (lw_at lw_m3 35 rfl) rfl
theorem w649 : (Jvm.Cond.code ({ cls := "QuotaPeers", name := "request", desc := "(IIII)V" } : Jvm.MethodName) prog_1_method_11_code (5 : Nat) (Option.none : Option Jvm.ClassFile.FieldType)) ∈ lw_all := lw_g (lw_at lw_m3 36 rfl) rfl
theorem w650 : (Jvm.Cond.methodLink "QuotaPeers" (144 : Nat) ({ cls := "QuotaPeers$Page", name := "begin", desc := "(IIIII)V" } : Jvm.MethodName)) ∈ lw_all := lw_g (lw_at lw_m3 37 rfl) rfl
theorem w651 : (Jvm.Cond.instanceMethod ({ cls := "QuotaPeers$Page", name := "begin", desc := "(IIIII)V" } : Jvm.MethodName)) ∈ lw_all := lw_g (lw_at lw_m3 38 rfl) rfl
theorem w652 : (Jvm.Cond.selects "QuotaPeers$Page" ({ cls := "QuotaPeers$Page", name := "begin", desc := "(IIIII)V" } : Jvm.MethodName) ({ cls := "QuotaPeers$Page", name := "begin", desc := "(IIIII)V" } : Jvm.MethodName)) ∈ lw_all := lw_g (lw_at lw_m3 39 rfl) rfl
theorem w653 : (Jvm.Cond.code ({ cls := "QuotaPeers$Page", name := "begin", desc := "(IIIII)V" } : Jvm.MethodName) prog_7_method_4_code (6 : Nat) (Option.none : Option Jvm.ClassFile.FieldType)) ∈ lw_all := lw_g (lw_at lw_m3 40 rfl) rfl
theorem w654 : (Jvm.Cond.methodLink "QuotaPeers$Page" (19 : Nat) ({ cls := "QuotaPeers$Page", name := "put", desc := "(JI)V" } : Jvm.MethodName)) ∈ lw_all := lw_g (lw_at lw_m3 41 rfl) rfl
theorem w656 : (Jvm.Cond.instanceMethod ({ cls := "QuotaPeers$Page", name := "put", desc := "(JI)V" } : Jvm.MethodName)) ∈ lw_all := lw_g (lw_at lw_m3 43 rfl) rfl
theorem w657 : (Jvm.Cond.code ({ cls := "QuotaPeers$Page", name := "put", desc := "(JI)V" } : Jvm.MethodName) prog_7_method_2_code (5 : Nat) (Option.none : Option Jvm.ClassFile.FieldType)) ∈ lw_all := lw_g (lw_at lw_m3 44 rfl) rfl
theorem w658 : (Jvm.Cond.methodLink "QuotaPeers" (148 : Nat) ({ cls := "QuotaPeers$Page", name := "text", desc := "(ILQuotaPeers$Text;)V" } : Jvm.MethodName)) ∈ lw_all := lw_g (lw_at lw_m3 45 rfl) rfl
theorem w659 : (Jvm.Cond.instanceMethod ({ cls := "QuotaPeers$Page", name := "text", desc := "(ILQuotaPeers$Text;)V" } : Jvm.MethodName)) ∈ lw_all := lw_g (lw_at lw_m3 46 rfl) rfl
theorem w660 : (Jvm.Cond.selects "QuotaPeers$Page" ({ cls := "QuotaPeers$Page", name := "text", desc := "(ILQuotaPeers$Text;)V" } : Jvm.MethodName) ({ cls := "QuotaPeers$Page", name := "text", desc := "(ILQuotaPeers$Text;)V" } : Jvm.MethodName)) ∈ lw_all := lw_g (lw_at lw_m3 47 rfl) rfl
theorem w661 : (Jvm.Cond.code ({ cls := "QuotaPeers$Page", name := "text", desc := "(ILQuotaPeers$Text;)V" } : Jvm.MethodName) prog_7_method_9_code (3 : Nat) (Option.none : Option Jvm.ClassFile.FieldType)) ∈ lw_all := lw_g (lw_at lw_m3 48 rfl) rfl
theorem w662 : (Jvm.Cond.methodLink "QuotaPeers$Page" (29 : Nat) ({ cls := "QuotaPeers$Page", name := "attribute", desc := "(II)V" } : Jvm.MethodName)) ∈ lw_all := lw_g (lw_at lw_m3 49 rfl) rfl
theorem w664 : (Jvm.Cond.instanceMethod ({ cls := "QuotaPeers$Page", name := "attribute", desc := "(II)V" } : Jvm.MethodName)) ∈ lw_all := lw_g (lw_at lw_m3 51 rfl) rfl
theorem w665 : (Jvm.Cond.code ({ cls := "QuotaPeers$Page", name := "attribute", desc := "(II)V" } : Jvm.MethodName) prog_7_method_6_code (3 : Nat) (Option.none : Option Jvm.ClassFile.FieldType)) ∈ lw_all := lw_g (lw_at lw_m3 52 rfl) rfl
theorem w666 : (Jvm.Cond.constantLong "QuotaPeers$Page" (27 : Nat) (64 : Int64)) ∈ lw_all := lw_g (lw_at lw_m3 53 rfl) rfl
theorem w667 : (Jvm.Cond.methodLink "QuotaPeers$Page" (37 : Nat) ({ cls := "java/lang/System", name := "arraycopy", desc := "(Ljava/lang/Object;ILjava/lang/Object;II)V" } : Jvm.MethodName)) ∈ lw_all := lw_g (lw_at lw_m3 54 rfl) rfl
theorem w668 : (Jvm.Cond.methodLink "QuotaPeers$Page" (43 : Nat) ({ cls := "QuotaPeers$Page", name := "pad", desc := "()V" } : Jvm.MethodName)) ∈ lw_all := lw_g (lw_at lw_m3 55 rfl) rfl
theorem w670 : (Jvm.Cond.instanceMethod ({ cls := "QuotaPeers$Page", name := "pad", desc := "()V" } : Jvm.MethodName)) ∈ lw_all := lw_g (lw_at lw_m3 57 rfl) rfl
theorem w671 : (Jvm.Cond.code ({ cls := "QuotaPeers$Page", name := "pad", desc := "()V" } : Jvm.MethodName) prog_7_method_7_code (1 : Nat) (Option.none : Option Jvm.ClassFile.FieldType)) ∈ lw_all := lw_g (lw_at lw_m3 58 rfl) rfl
theorem w672 : (Jvm.Cond.methodLink "QuotaPeers" (168 : Nat) ({ cls := "QuotaPeers", name := "origin", desc := "()V" } : Jvm.MethodName)) ∈ lw_all := lw_g (lw_at lw_m3 59 rfl) rfl
theorem w674 : (Jvm.Cond.instanceMethod ({ cls := "QuotaPeers", name := "origin", desc := "()V" } : Jvm.MethodName)) ∈ lw_all := lw_g (lw_at lw_m3 61 rfl) rfl
theorem w675 : (Jvm.Cond.code ({ cls := "QuotaPeers", name := "origin", desc := "()V" } : Jvm.MethodName) prog_1_method_12_code (1 : Nat) (Option.none : Option Jvm.ClassFile.FieldType)) ∈ lw_all := lw_g (lw_at lw_m3 62 rfl) rfl
theorem w676 : (Jvm.Cond.constantLong "QuotaPeers" (159 : Nat) (4 : Int64)) ∈ lw_all := lw_g (lw_at lw_m3 63 rfl) rfl
theorem w677 : (Jvm.Cond.methodLink "QuotaPeers" (155 : Nat) ({ cls := "QuotaPeers$Page", name := "number", desc := "(IJ)V" } : Jvm.MethodName)) ∈ lw_all := lw_g (lw_at lw_m3 64 rfl) rfl
theorem w678 : (Jvm.Cond.instanceMethod ({ cls := "QuotaPeers$Page", name := "number", desc := "(IJ)V" } : Jvm.MethodName)) ∈ lw_all := lw_g (lw_at lw_m3 65 rfl) rfl
theorem w679 : (Jvm.Cond.selects "QuotaPeers$Page" ({ cls := "QuotaPeers$Page", name := "number", desc := "(IJ)V" } : Jvm.MethodName) ({ cls := "QuotaPeers$Page", name := "number", desc := "(IJ)V" } : Jvm.MethodName)) ∈ lw_all := lw_g (lw_at lw_m3 66 rfl) rfl
theorem w680 : (Jvm.Cond.code ({ cls := "QuotaPeers$Page", name := "number", desc := "(IJ)V" } : Jvm.MethodName) prog_7_method_8_code (4 : Nat) (Option.none : Option Jvm.ClassFile.FieldType)) ∈ lw_all := lw_g (lw_at lw_m3 67 rfl) rfl
theorem w681 : (Jvm.Cond.methodLink "QuotaPeers" (189 : Nat) ({ cls := "QuotaPeers$Peer", name := "link", desc := "()LQuotaPeers$Link;" } : Jvm.MethodName)) ∈ lw_all := lw_g (lw_at lw_m3 68 rfl) rfl
theorem w682 : (Jvm.Cond.instanceMethod ({ cls := "QuotaPeers$Peer", name := "link", desc := "()LQuotaPeers$Link;" } : Jvm.MethodName)) ∈ lw_all := lw_g (lw_at lw_m3 69 rfl) rfl
theorem w683 : (Jvm.Cond.selects "QuotaPeers$Peer" ({ cls := "QuotaPeers$Peer", name := "link", desc := "()LQuotaPeers$Link;" } : Jvm.MethodName) ({ cls := "QuotaPeers$Peer", name := "link", desc := "()LQuotaPeers$Link;" } : Jvm.MethodName)) ∈ lw_all := lw_g (lw_at lw_m3 70 rfl) rfl
theorem w684 : (Jvm.Cond.code ({ cls := "QuotaPeers$Peer", name := "link", desc := "()LQuotaPeers$Link;" } : Jvm.MethodName) prog_8_method_4_code (1 : Nat) (Option.some (Jvm.ClassFile.FieldType.object "QuotaPeers$Link"))) ∈ lw_all := lw_g (lw_at lw_m3 71 rfl) rfl
theorem w685 : (Jvm.Cond.methodLink "QuotaPeers" (178 : Nat) ({ cls := "QuotaPeers", name := "send", desc := "(LQuotaPeers$Link;)V" } : Jvm.MethodName)) ∈ lw_all := lw_g (lw_at lw_m3 72 rfl) rfl
theorem w687 : (Jvm.Cond.instanceMethod ({ cls := "QuotaPeers", name := "send", desc := "(LQuotaPeers$Link;)V" } : Jvm.MethodName)) ∈ lw_all := lw_g (lw_at lw_m3 74 rfl) rfl
theorem w688 : (Jvm.Cond.code ({ cls := "QuotaPeers", name := "send", desc := "(LQuotaPeers$Link;)V" } : Jvm.MethodName) prog_1_method_10_code (2 : Nat) (Option.none : Option Jvm.ClassFile.FieldType)) ∈ lw_all := lw_g (lw_at lw_m3 75 rfl) rfl
theorem w689 : (Jvm.Cond.methodLink "QuotaPeers" (126 : Nat) ({ cls := "QuotaPeers$Page", name := "end", desc := "()V" } : Jvm.MethodName)) ∈ lw_all := lw_g (lw_at lw_m3 76 rfl) rfl
theorem w690 : (Jvm.Cond.instanceMethod ({ cls := "QuotaPeers$Page", name := "end", desc := "()V" } : Jvm.MethodName)) ∈ lw_all := lw_g (lw_at lw_m3 77 rfl) rfl
theorem w691 : (Jvm.Cond.selects "QuotaPeers$Page" ({ cls := "QuotaPeers$Page", name := "end", desc := "()V" } : Jvm.MethodName) ({ cls := "QuotaPeers$Page", name := "end", desc := "()V" } : Jvm.MethodName)) ∈ lw_all := lw_g (lw_at lw_m3 78 rfl) rfl
theorem w692 : (Jvm.Cond.code ({ cls := "QuotaPeers$Page", name := "end", desc := "()V" } : Jvm.MethodName) prog_7_method_5_code (1 : Nat) (Option.none : Option Jvm.ClassFile.FieldType)) ∈ lw_all := lw_g (lw_at lw_m3 79 rfl) rfl
theorem w693 : (Jvm.Cond.methodLink "QuotaPeers$Page" (23 : Nat) ({ cls := "QuotaPeers$Page", name := "set", desc := "(IJI)V" } : Jvm.MethodName)) ∈ lw_all := lw_g (lw_at lw_m3 80 rfl) rfl
theorem w695 : (Jvm.Cond.instanceMethod ({ cls := "QuotaPeers$Page", name := "set", desc := "(IJI)V" } : Jvm.MethodName)) ∈ lw_all := lw_g (lw_at lw_m3 82 rfl) rfl
theorem w696 : (Jvm.Cond.code ({ cls := "QuotaPeers$Page", name := "set", desc := "(IJI)V" } : Jvm.MethodName) prog_7_method_3_code (6 : Nat) (Option.none : Option Jvm.ClassFile.FieldType)) ∈ lw_all := lw_g (lw_at lw_m3 83 rfl) rfl
theorem w697 : (Jvm.Cond.methodLink "QuotaPeers" (134 : Nat) ({ cls := "QuotaPeers$Link", name := "put", desc := "([BI)Z" } : Jvm.MethodName)) ∈ lw_all := lw_g (lw_at lw_m3 84 rfl) rfl
theorem w698 : (Jvm.Cond.instanceMethod ({ cls := "QuotaPeers$Link", name := "put", desc := "([BI)Z" } : Jvm.MethodName)) ∈ lw_all := lw_g (lw_at lw_m3 85 rfl) rfl
theorem w699 : (Jvm.Cond.selects "QuotaPeers$Link" ({ cls := "QuotaPeers$Link", name := "put", desc := "([BI)Z" } : Jvm.MethodName) ({ cls := "QuotaPeers$Link", name := "put", desc := "([BI)Z" } : Jvm.MethodName)) ∈ lw_all := lw_g (lw_at lw_m3 86 rfl) rfl
theorem w700 : (Jvm.Cond.code ({ cls := "QuotaPeers$Link", name := "put", desc := "([BI)Z" } : Jvm.MethodName) prog_5_method_5_code (4 : Nat) (Option.some Jvm.ClassFile.FieldType.boolean)) ∈ lw_all := lw_g (lw_at lw_m3 87 rfl) rfl
theorem w701 : (Jvm.Cond.constantLong "QuotaPeers" (443 : Nat) (3002 : Int64)) ∈ lw_all := lw_g (lw_at lw_m3 88 rfl) rfl
theorem w702 : (Jvm.Cond.methodLink "QuotaPeers" (271 : Nat) ({ cls := "QuotaPeers", name := "comeUp", desc := "(LQuotaPeers$Peer;)V" } : Jvm.MethodName)) ∈ lw_all := lw_g (lw_at lw_m3 89 rfl) rfl
theorem w704 : (Jvm.Cond.instanceMethod ({ cls := "QuotaPeers", name := "comeUp", desc := "(LQuotaPeers$Peer;)V" } : Jvm.MethodName)) ∈ lw_all := lw_g (lw_at lw_m3 91 rfl) rfl
theorem w705 : (Jvm.Cond.code ({ cls := "QuotaPeers", name := "comeUp", desc := "(LQuotaPeers$Peer;)V" } : Jvm.MethodName) prog_1_method_24_code (2 : Nat) (Option.none : Option Jvm.ClassFile.FieldType)) ∈ lw_all := lw_g (lw_at lw_m3 92 rfl) rfl
theorem w706 : (Jvm.Cond.methodLink "QuotaPeers" (283 : Nat) ({ cls := "QuotaPeers", name := "sendWatch", desc := "(LQuotaPeers$Peer;)V" } : Jvm.MethodName)) ∈ lw_all := lw_g (lw_at lw_m3 93 rfl) rfl
theorem w708 : (Jvm.Cond.instanceMethod ({ cls := "QuotaPeers", name := "sendWatch", desc := "(LQuotaPeers$Peer;)V" } : Jvm.MethodName)) ∈ lw_all := lw_g (lw_at lw_m3 95 rfl) rfl
theorem w709 : (Jvm.Cond.code ({ cls := "QuotaPeers", name := "sendWatch", desc := "(LQuotaPeers$Peer;)V" } : Jvm.MethodName) prog_1_method_15_code (2 : Nat) (Option.none : Option Jvm.ClassFile.FieldType)) ∈ lw_all := lw_g (lw_at lw_m3 96 rfl) rfl
theorem w710 : (Jvm.Cond.methodLink "QuotaPeersLaw" (32 : Nat) ({ cls := "QuotaPeers", name := "accept", desc := "()I" } : Jvm.MethodName)) ∈ lw_all := lw_g (lw_at lw_m3 97 rfl) rfl
theorem w711 : (Jvm.Cond.instanceMethod ({ cls := "QuotaPeers", name := "accept", desc := "()I" } : Jvm.MethodName)) ∈ lw_all := lw_g (lw_at lw_m3 98 rfl) rfl
theorem w712 : (Jvm.Cond.selects "QuotaPeers" ({ cls := "QuotaPeers", name := "accept", desc := "()I" } : Jvm.MethodName) ({ cls := "QuotaPeers", name := "accept", desc := "()I" } : Jvm.MethodName)) ∈ lw_all := lw_g (lw_at lw_m3 99 rfl) rfl
theorem w713 : (Jvm.Cond.code ({ cls := "QuotaPeers", name := "accept", desc := "()I" } : Jvm.MethodName) prog_1_method_32_code (2 : Nat) (Option.some Jvm.ClassFile.FieldType.int)) ∈ lw_all := lw_g (lw_at lw_m3 100 rfl) rfl
theorem w714 : (Jvm.Cond.methodLink "QuotaPeersLaw" (36 : Nat) ({ cls := "QuotaPeers", name := "connected", desc := "(IZ)I" } : Jvm.MethodName)) ∈ lw_all := lw_g (lw_at lw_m3 101 rfl) rfl
theorem w715 : (Jvm.Cond.instanceMethod ({ cls := "QuotaPeers", name := "connected", desc := "(IZ)I" } : Jvm.MethodName)) ∈ lw_all := lw_g (lw_at lw_m3 102 rfl) rfl
theorem w716 : (Jvm.Cond.selects "QuotaPeers" ({ cls := "QuotaPeers", name := "connected", desc := "(IZ)I" } : Jvm.MethodName) ({ cls := "QuotaPeers", name := "connected", desc := "(IZ)I" } : Jvm.MethodName)) ∈ lw_all := lw_g (lw_at lw_m3 103 rfl) rfl
theorem w717 : (Jvm.Cond.code ({ cls := "QuotaPeers", name := "connected", desc := "(IZ)I" } : Jvm.MethodName) prog_1_method_33_code (5 : Nat) (Option.some Jvm.ClassFile.FieldType.int)) ∈ lw_all := lw_g (lw_at lw_m3 104 rfl) rfl
theorem w718 : (Jvm.Cond.methodLink "QuotaPeers" (332 : Nat) ({ cls := "QuotaPeers", name := "linkAt", desc := "(I)LQuotaPeers$Link;" } : Jvm.MethodName)) ∈ lw_all := lw_g (lw_at lw_m3 105 rfl) rfl
theorem w720 : (Jvm.Cond.instanceMethod ({ cls := "QuotaPeers", name := "linkAt", desc := "(I)LQuotaPeers$Link;" } : Jvm.MethodName)) ∈ lw_all := lw_g (lw_at lw_m3 107 rfl) rfl
theorem w721 : (Jvm.Cond.code ({ cls := "QuotaPeers", name := "linkAt", desc := "(I)LQuotaPeers$Link;" } : Jvm.MethodName) prog_1_method_8_code (2 : Nat) (Option.some (Jvm.ClassFile.FieldType.object "QuotaPeers$Link"))) ∈ lw_all := lw_g (lw_at lw_m3 108 rfl) rfl
theorem w722 : (Jvm.Cond.constantLong "QuotaPeers" (121 : Nat) (8 : Int64)) ∈ lw_all := lw_g (lw_at lw_m3 109 rfl) rfl
theorem w723 : (Jvm.Cond.methodLink "QuotaPeers" (336 : Nat) ({ cls := "QuotaPeers$Link", name := "isOpen", desc := "()Z" } : Jvm.MethodName)) ∈ lw_all := lw_g (lw_at lw_m3 110 rfl) rfl
theorem w724 : (Jvm.Cond.instanceMethod ({ cls := "QuotaPeers$Link", name := "isOpen", desc := "()Z" } : Jvm.MethodName)) ∈ lw_all := lw_g (lw_at lw_m3 111 rfl) rfl
theorem w725 : (Jvm.Cond.selects "QuotaPeers$Link" ({ cls := "QuotaPeers$Link", name := "isOpen", desc := "()Z" } : Jvm.MethodName) ({ cls := "QuotaPeers$Link", name := "isOpen", desc := "()Z" } : Jvm.MethodName)) ∈ lw_all := lw_g (lw_at lw_m3 112 rfl) rfl
theorem w726 : (Jvm.Cond.code ({ cls := "QuotaPeers$Link", name := "isOpen", desc := "()Z" } : Jvm.MethodName) prog_5_method_2_code (1 : Nat) (Option.some Jvm.ClassFile.FieldType.boolean)) ∈ lw_all := lw_g (lw_at lw_m3 113 rfl) rfl
theorem w727 : (Jvm.Cond.methodLink "QuotaPeers" (339 : Nat) ({ cls := "QuotaPeers", name := "end", desc := "(LQuotaPeers$Link;)V" } : Jvm.MethodName)) ∈ lw_all := lw_g (lw_at lw_m3 114 rfl) rfl
theorem w729 : (Jvm.Cond.instanceMethod ({ cls := "QuotaPeers", name := "end", desc := "(LQuotaPeers$Link;)V" } : Jvm.MethodName)) ∈ lw_all := lw_g (lw_at lw_m3 116 rfl) rfl
theorem w730 : (Jvm.Cond.code ({ cls := "QuotaPeers", name := "end", desc := "(LQuotaPeers$Link;)V" } : Jvm.MethodName) prog_1_method_29_code (4 : Nat) (Option.none : Option Jvm.ClassFile.FieldType)) ∈ lw_all := lw_g (lw_at lw_m3 117 rfl) rfl
theorem w731 : (Jvm.Cond.methodLink "QuotaPeers" (257 : Nat) ({ cls := "QuotaPeers$Link", name := "close", desc := "()V" } : Jvm.MethodName)) ∈ lw_all := lw_g (lw_at lw_m3 118 rfl) rfl
theorem w732 : (Jvm.Cond.instanceMethod ({ cls := "QuotaPeers$Link", name := "close", desc := "()V" } : Jvm.MethodName)) ∈ lw_all := lw_g (lw_at lw_m3 119 rfl) rfl
theorem w733 : (Jvm.Cond.selects "QuotaPeers$Link" ({ cls := "QuotaPeers$Link", name := "close", desc := "()V" } : Jvm.MethodName) ({ cls := "QuotaPeers$Link", name := "close", desc := "()V" } : Jvm.MethodName)) ∈ lw_all := lw_g (lw_at lw_m3 120 rfl) rfl
theorem w734 : (Jvm.Cond.code ({ cls := "QuotaPeers$Link", name := "close", desc := "()V" } : Jvm.MethodName) prog_5_method_4_code (1 : Nat) (Option.none : Option Jvm.ClassFile.FieldType)) ∈ lw_all := lw_g (lw_at lw_m3 121 rfl) rfl
theorem w735 : (Jvm.Cond.methodLink "QuotaPeers" (289 : Nat) ({ cls := "QuotaPeers", name := "closeOwn", desc := "(LQuotaPeers$Peer;)V" } : Jvm.MethodName)) ∈ lw_all := lw_g (lw_at lw_m3 122 rfl) rfl
theorem w736 : (Jvm.Cond.static ({ cls := "QuotaPeers", name := "closeOwn", desc := "(LQuotaPeers$Peer;)V" } : Jvm.MethodName)) ∈ lw_all := lw_g (lw_at lw_m3 123 rfl) rfl
theorem w737 : (Jvm.Cond.code ({ cls := "QuotaPeers", name := "closeOwn", desc := "(LQuotaPeers$Peer;)V" } : Jvm.MethodName) prog_1_method_21_code (1 : Nat) (Option.none : Option Jvm.ClassFile.FieldType)) ∈ lw_all := lw_g (lw_at lw_m3 124 rfl) rfl
theorem w738 : (Jvm.Cond.methodLink "QuotaPeers" (292 : Nat) ({ cls := "QuotaPeers", name := "closeCame", desc := "(LQuotaPeers$Peer;)V" } : Jvm.MethodName)) ∈ lw_all := lw_g (lw_at lw_m3 125 rfl) rfl
theorem w739 : (Jvm.Cond.static ({ cls := "QuotaPeers", name := "closeCame", desc := "(LQuotaPeers$Peer;)V" } : Jvm.MethodName)) ∈ lw_all := lw_g (lw_at lw_m3 126 rfl) rfl
theorem w740 : (Jvm.Cond.code ({ cls := "QuotaPeers", name := "closeCame", desc := "(LQuotaPeers$Peer;)V" } : Jvm.MethodName) prog_1_method_22_code (1 : Nat) (Option.none : Option Jvm.ClassFile.FieldType)) ∈ lw_all := lw_g (lw_at lw_m3 127 rfl) rfl
theorem w741 : (Jvm.Cond.methodLink "QuotaPeers" (305 : Nat) ({ cls := "QuotaPeers", name := "opened", desc := "(LQuotaPeers$Peer;)V" } : Jvm.MethodName)) ∈ lw_all := lw_g (lw_at lw_m3 128 rfl) rfl
theorem w743 : (Jvm.Cond.instanceMethod ({ cls := "QuotaPeers", name := "opened", desc := "(LQuotaPeers$Peer;)V" } : Jvm.MethodName)) ∈ lw_all := lw_g (lw_at lw_m3 130 rfl) rfl
theorem w744 : (Jvm.Cond.code ({ cls := "QuotaPeers", name := "opened", desc := "(LQuotaPeers$Peer;)V" } : Jvm.MethodName) prog_1_method_27_code (2 : Nat) (Option.none : Option Jvm.ClassFile.FieldType)) ∈ lw_all := lw_g (lw_at lw_m3 131 rfl) rfl
theorem w745 : (Jvm.Cond.methodLink "QuotaPeers" (299 : Nat) ({ cls := "QuotaPeers", name := "answerCame", desc := "(LQuotaPeers$Peer;)V" } : Jvm.MethodName)) ∈ lw_all := lw_g (lw_at lw_m3 132 rfl) rfl
theorem w747 : (Jvm.Cond.instanceMethod ({ cls := "QuotaPeers", name := "answerCame", desc := "(LQuotaPeers$Peer;)V" } : Jvm.MethodName)) ∈ lw_all := lw_g (lw_at lw_m3 134 rfl) rfl
theorem w748 : (Jvm.Cond.code ({ cls := "QuotaPeers", name := "answerCame", desc := "(LQuotaPeers$Peer;)V" } : Jvm.MethodName) prog_1_method_20_code (2 : Nat) (Option.none : Option Jvm.ClassFile.FieldType)) ∈ lw_all := lw_g (lw_at lw_m3 135 rfl) rfl
theorem w749 : (Jvm.Cond.methodLink "QuotaPeers" (207 : Nat) ({ cls := "QuotaPeers", name := "answerHead", desc := "(IIIIII)V" } : Jvm.MethodName)) ∈ lw_all := lw_g (lw_at lw_m3 136 rfl) rfl
theorem w751 : (Jvm.Cond.instanceMethod ({ cls := "QuotaPeers", name := "answerHead", desc := "(IIIIII)V" } : Jvm.MethodName)) ∈ lw_all := lw_g (lw_at lw_m3 138 rfl) rfl
theorem w752 : (Jvm.Cond.code ({ cls := "QuotaPeers", name := "answerHead", desc := "(IIIIII)V" } : Jvm.MethodName) prog_1_method_16_code (7 : Nat) (Option.none : Option Jvm.ClassFile.FieldType)) ∈ lw_all := lw_g (lw_at lw_m3 139 rfl) rfl
theorem w753 : (Jvm.Cond.constantLong "QuotaPeers" (252 : Nat) (2001 : Int64)) ∈ lw_all := lw_g (lw_at lw_m3 140 rfl) rfl
theorem w754 : (Jvm.Cond.methodLink "QuotaPeers" (171 : Nat) ({ cls := "QuotaPeers", name := "capabilities", desc := "()V" } : Jvm.MethodName)) ∈ lw_all := lw_g (lw_at lw_m3 141 rfl) rfl
theorem w756 : (Jvm.Cond.instanceMethod ({ cls := "QuotaPeers", name := "capabilities", desc := "()V" } : Jvm.MethodName)) ∈ lw_all := lw_g (lw_at lw_m3 143 rfl) rfl
theorem w757 : (Jvm.Cond.code ({ cls := "QuotaPeers", name := "capabilities", desc := "()V" } : Jvm.MethodName) prog_1_method_13_code (1 : Nat) (Option.none : Option Jvm.ClassFile.FieldType)) ∈ lw_all := lw_g (lw_at lw_m3 144 rfl) rfl
theorem w758 : (Jvm.Cond.methodLink "QuotaPeers" (152 : Nat) ({ cls := "QuotaPeers$Page", name := "address", desc := "()V" } : Jvm.MethodName)) ∈ lw_all := lw_g (lw_at lw_m3 145 rfl) rfl
theorem w759 : (Jvm.Cond.instanceMethod ({ cls := "QuotaPeers$Page", name := "address", desc := "()V" } : Jvm.MethodName)) ∈ lw_all := lw_g (lw_at lw_m3 146 rfl) rfl
theorem w760 : (Jvm.Cond.selects "QuotaPeers$Page" ({ cls := "QuotaPeers$Page", name := "address", desc := "()V" } : Jvm.MethodName) ({ cls := "QuotaPeers$Page", name := "address", desc := "()V" } : Jvm.MethodName)) ∈ lw_all := lw_g (lw_at lw_m3 147 rfl) rfl
theorem w761 : (Jvm.Cond.code ({ cls := "QuotaPeers$Page", name := "address", desc := "()V" } : Jvm.MethodName) prog_7_method_11_code (1 : Nat) (Option.none : Option Jvm.ClassFile.FieldType)) ∈ lw_all := lw_g (lw_at lw_m3 148 rfl) rfl
theorem w762 : (Jvm.Cond.constantLong "QuotaPeers$Page" (46 : Nat) (6425673729 : Int64)) ∈ lw_all := lw_g (lw_at lw_m3 149 rfl) rfl
theorem w763 : (Jvm.Cond.methodLink "QuotaPeers" (314 : Nat) ({ cls := "QuotaPeers", name := "shut", desc := "(LQuotaPeers$Peer;)V" } : Jvm.MethodName)) ∈ lw_all := lw_g (lw_at lw_m3 150 rfl) rfl
theorem w765 : (Jvm.Cond.instanceMethod ({ cls := "QuotaPeers", name := "shut", desc := "(LQuotaPeers$Peer;)V" } : Jvm.MethodName)) ∈ lw_all := lw_g (lw_at lw_m3 152 rfl) rfl
theorem w766 : (Jvm.Cond.code ({ cls := "QuotaPeers", name := "shut", desc := "(LQuotaPeers$Peer;)V" } : Jvm.MethodName) prog_1_method_26_code (2 : Nat) (Option.none : Option Jvm.ClassFile.FieldType)) ∈ lw_all := lw_g (lw_at lw_m3 153 rfl) rfl
theorem w767 : (Jvm.Cond.methodLink "QuotaPeers" (341 : Nat) ({ cls := "QuotaPeers", name := "sendOpening", desc := "(LQuotaPeers$Peer;)V" } : Jvm.MethodName)) ∈ lw_all := lw_g (lw_at lw_m3 154 rfl) rfl
theorem w769 : (Jvm.Cond.instanceMethod ({ cls := "QuotaPeers", name := "sendOpening", desc := "(LQuotaPeers$Peer;)V" } : Jvm.MethodName)) ∈ lw_all := lw_g (lw_at lw_m3 156 rfl) rfl
theorem w770 : (Jvm.Cond.code ({ cls := "QuotaPeers", name := "sendOpening", desc := "(LQuotaPeers$Peer;)V" } : Jvm.MethodName) prog_1_method_14_code (2 : Nat) (Option.none : Option Jvm.ClassFile.FieldType)) ∈ lw_all := lw_g (lw_at lw_m3 157 rfl) rfl
theorem w771 : (Jvm.Cond.methodLink "QuotaPeers" (344 : Nat) ({ cls := "QuotaPeers", name := "choose", desc := "(LQuotaPeers$Peer;)V" } : Jvm.MethodName)) ∈ lw_all := lw_g (lw_at lw_m3 158 rfl) rfl
theorem w773 : (Jvm.Cond.instanceMethod ({ cls := "QuotaPeers", name := "choose", desc := "(LQuotaPeers$Peer;)V" } : Jvm.MethodName)) ∈ lw_all := lw_g (lw_at lw_m3 160 rfl) rfl
theorem w774 : (Jvm.Cond.code ({ cls := "QuotaPeers", name := "choose", desc := "(LQuotaPeers$Peer;)V" } : Jvm.MethodName) prog_1_method_28_code (2 : Nat) (Option.none : Option Jvm.ClassFile.FieldType)) ∈ lw_all := lw_g (lw_at lw_m3 161 rfl) rfl
theorem w775 : (Jvm.Cond.methodLink "QuotaPeers" (302 : Nat) ({ cls := "QuotaPeers$Text", name := "isLater", desc := "(LQuotaPeers$Text;)Z" } : Jvm.MethodName)) ∈ lw_all := lw_g (lw_at lw_m3 162 rfl) rfl
theorem w776 : (Jvm.Cond.instanceMethod ({ cls := "QuotaPeers$Text", name := "isLater", desc := "(LQuotaPeers$Text;)Z" } : Jvm.MethodName)) ∈ lw_all := lw_g (lw_at lw_m3 163 rfl) rfl
theorem w777 : (Jvm.Cond.selects "QuotaPeers$Text" ({ cls := "QuotaPeers$Text", name := "isLater", desc := "(LQuotaPeers$Text;)Z" } : Jvm.MethodName) ({ cls := "QuotaPeers$Text", name := "isLater", desc := "(LQuotaPeers$Text;)Z" } : Jvm.MethodName)) ∈ lw_all := lw_g (lw_at lw_m3 164 rfl) rfl
theorem w778 : (Jvm.Cond.code ({ cls := "QuotaPeers$Text", name := "isLater", desc := "(LQuotaPeers$Text;)Z" } : Jvm.MethodName) prog_11_method_8_code (3 : Nat) (Option.some Jvm.ClassFile.FieldType.boolean)) ∈ lw_all := lw_g (lw_at lw_m3 165 rfl) rfl
theorem w779 : (Jvm.Cond.methodLink "QuotaPeersLaw" (48 : Nat) ({ cls := "QuotaPeers", name := "gone", desc := "(I)I" } : Jvm.MethodName)) ∈ lw_all := lw_g (lw_at lw_m3 166 rfl) rfl
theorem w780 : (Jvm.Cond.instanceMethod ({ cls := "QuotaPeers", name := "gone", desc := "(I)I" } : Jvm.MethodName)) ∈ lw_all := lw_g (lw_at lw_m3 167 rfl) rfl
theorem w781 : (Jvm.Cond.selects "QuotaPeers" ({ cls := "QuotaPeers", name := "gone", desc := "(I)I" } : Jvm.MethodName) ({ cls := "QuotaPeers", name := "gone", desc := "(I)I" } : Jvm.MethodName)) ∈ lw_all := lw_g (lw_at lw_m3 168 rfl) rfl
theorem w782 : (Jvm.Cond.code ({ cls := "QuotaPeers", name := "gone", desc := "(I)I" } : Jvm.MethodName) prog_1_method_34_code (3 : Nat) (Option.some Jvm.ClassFile.FieldType.int)) ∈ lw_all := lw_g (lw_at lw_m3 169 rfl) rfl
theorem w783 : (Jvm.Cond.methodLink "QuotaPeersLaw" (52 : Nat) ({ cls := "QuotaPeers", name := "stop", desc := "(II)I" } : Jvm.MethodName)) ∈ lw_all := lw_g (lw_at lw_m3 170 rfl) rfl
theorem w784 : (Jvm.Cond.instanceMethod ({ cls := "QuotaPeers", name := "stop", desc := "(II)I" } : Jvm.MethodName)) ∈ lw_all := lw_g (lw_at lw_m3 171 rfl) rfl
theorem w785 : (Jvm.Cond.selects "QuotaPeers" ({ cls := "QuotaPeers", name := "stop", desc := "(II)I" } : Jvm.MethodName) ({ cls := "QuotaPeers", name := "stop", desc := "(II)I" } : Jvm.MethodName)) ∈ lw_all := lw_g (lw_at lw_m3 172 rfl) rfl
theorem w786 : (Jvm.Cond.code ({ cls := "QuotaPeers", name := "stop", desc := "(II)I" } : Jvm.MethodName) prog_1_method_35_code (4 : Nat) (Option.some Jvm.ClassFile.FieldType.int)) ∈ lw_all := lw_g (lw_at lw_m3 173 rfl) rfl
theorem w787 : (Jvm.Cond.constantLong "QuotaPeers" (347 : Nat) (2 : Int64)) ∈ lw_all := lw_g (lw_at lw_m3 174 rfl) rfl
theorem w788 : (Jvm.Cond.methodLink "QuotaPeersLaw" (43 : Nat) ({ cls := "QuotaPeers", name := "feed", desc := "(IJJJJI)I" } : Jvm.MethodName)) ∈ lw_all := lw_g (lw_at lw_m3 175 rfl) rfl
theorem w789 : (Jvm.Cond.instanceMethod ({ cls := "QuotaPeers", name := "feed", desc := "(IJJJJI)I" } : Jvm.MethodName)) ∈ lw_all := lw_g (lw_at lw_m3 176 rfl) rfl
theorem w790 : (Jvm.Cond.selects "QuotaPeers" ({ cls := "QuotaPeers", name := "feed", desc := "(IJJJJI)I" } : Jvm.MethodName) ({ cls := "QuotaPeers", name := "feed", desc := "(IJJJJI)I" } : Jvm.MethodName)) ∈ lw_all := lw_g (lw_at lw_m3 177 rfl) rfl
theorem w791 : (Jvm.Cond.code ({ cls := "QuotaPeers", name := "feed", desc := "(IJJJJI)I" } : Jvm.MethodName) prog_1_method_36_code (17 : Nat) (Option.some Jvm.ClassFile.FieldType.int)) ∈ lw_all := lw_g (lw_at lw_m3 178 rfl) rfl
theorem w792 : (Jvm.Cond.constantLong "QuotaPeers" (352 : Nat) (32 : Int64)) ∈ lw_all := lw_g (lw_at lw_m3 179 rfl) rfl
theorem w793 : (Jvm.Cond.methodLink "QuotaPeers" (359 : Nat) ({ cls := "QuotaPeers$Message", name := "read", desc := "([BI)V" } : Jvm.MethodName)) ∈ lw_all := lw_g (lw_at lw_m3 180 rfl) rfl
theorem w794 : (Jvm.Cond.instanceMethod ({ cls := "QuotaPeers$Message", name := "read", desc := "([BI)V" } : Jvm.MethodName)) ∈ lw_all := lw_g (lw_at lw_m3 181 rfl) rfl
theorem w795 : (Jvm.Cond.selects "QuotaPeers$Message" ({ cls := "QuotaPeers$Message", name := "read", desc := "([BI)V" } : Jvm.MethodName) ({ cls := "QuotaPeers$Message", name := "read", desc := "([BI)V" } : Jvm.MethodName)) ∈ lw_all := lw_g (lw_at lw_m3 182 rfl) rfl
theorem w796 : (Jvm.Cond.code ({ cls := "QuotaPeers$Message", name := "read", desc := "([BI)V" } : Jvm.MethodName) prog_6_method_19_code (5 : Nat) (Option.none : Option Jvm.ClassFile.FieldType)) ∈ lw_all := lw_g (lw_at lw_m3 183 rfl) rfl
theorem w797 : (Jvm.Cond.methodLink "QuotaPeers$Message" (49 : Nat) ({ cls := "QuotaPeers$Message", name := "get", desc := "(II)J" } : Jvm.MethodName)) ∈ lw_all := lw_g (lw_at lw_m3 184 rfl) rfl
theorem w799 : (Jvm.Cond.instanceMethod ({ cls := "QuotaPeers$Message", name := "get", desc := "(II)J" } : Jvm.MethodName)) ∈ lw_all := lw_g (lw_at lw_m3 186 rfl) rfl
theorem w800 : (Jvm.Cond.code ({ cls := "QuotaPeers$Message", name := "get", desc := "(II)J" } : Jvm.MethodName) prog_6_method_2_code (6 : Nat) (Option.some Jvm.ClassFile.FieldType.long)) ∈ lw_all := lw_g (lw_at lw_m3 187 rfl) rfl
theorem w801 : (Jvm.Cond.methodLink "QuotaPeers$Message" (126 : Nat) ({ cls := "QuotaPeers$Message", name := "rules", desc := "()LQuotaPeers$Command;" } : Jvm.MethodName)) ∈ lw_all := lw_g (lw_at lw_m3 188 rfl) rfl
theorem w803 : (Jvm.Cond.instanceMethod ({ cls := "QuotaPeers$Message", name := "rules", desc := "()LQuotaPeers$Command;" } : Jvm.MethodName)) ∈ lw_all := lw_g (lw_at lw_m3 190 rfl) rfl
theorem w804 : (Jvm.Cond.code ({ cls := "QuotaPeers$Message", name := "rules", desc := "()LQuotaPeers$Command;" } : Jvm.MethodName) prog_6_method_16_code (2 : Nat) (Option.some (Jvm.ClassFile.FieldType.object "QuotaPeers$Command"))) ∈ lw_all := lw_g (lw_at lw_m3 191 rfl) rfl
theorem w805 : (Jvm.Cond.methodLink "QuotaPeers$Message" (89 : Nat) ({ cls := "QuotaPeers$Message", name := "isRequest", desc := "()Z" } : Jvm.MethodName)) ∈ lw_all := lw_g (lw_at lw_m3 192 rfl) rfl
theorem w806 : (Jvm.Cond.instanceMethod ({ cls := "QuotaPeers$Message", name := "isRequest", desc := "()Z" } : Jvm.MethodName)) ∈ lw_all := lw_g (lw_at lw_m3 193 rfl) rfl
theorem w807 : (Jvm.Cond.selects "QuotaPeers$Message" ({ cls := "QuotaPeers$Message", name := "isRequest", desc := "()Z" } : Jvm.MethodName) ({ cls := "QuotaPeers$Message", name := "isRequest", desc := "()Z" } : Jvm.MethodName)) ∈ lw_all := lw_g (lw_at lw_m3 194 rfl) rfl
theorem w808 : (Jvm.Cond.code ({ cls := "QuotaPeers$Message", name := "isRequest", desc := "()Z" } : Jvm.MethodName) prog_6_method_3_code (1 : Nat) (Option.some Jvm.ClassFile.FieldType.boolean)) ∈ lw_all := lw_g (lw_at lw_m3 195 rfl) rfl
theorem w809 : (Jvm.Cond.fieldLink "QuotaPeers$Message" (93 : Nat) "QuotaPeers$Command" "ANSWERS" "LQuotaPeers$Command;") ∈ lw_all := lw_g (lw_at lw_m3 196 rfl) rfl
theorem w810 : (Jvm.Cond.laysStatic "QuotaPeers$Command" "ANSWERS" "LQuotaPeers$Command;") ∈ lw_tbl := lw_at lw_m3 197 rfl
theorem w811 : (Jvm.Cond.methodLink "QuotaPeers$Message" (130 : Nat) ({ cls := "QuotaPeers$Message", name := "isHeadWrong", desc := "(LQuotaPeers$Command;)Z" } : Jvm.MethodName)) ∈ lw_all := lw_g (lw_at lw_m3 198 rfl) rfl
theorem w813 : (Jvm.Cond.instanceMethod ({ cls := "QuotaPeers$Message", name := "isHeadWrong", desc := "(LQuotaPeers$Command;)Z" } : Jvm.MethodName)) ∈ lw_all := lw_g (lw_at lw_m3 200 rfl) rfl
theorem w814 : (Jvm.Cond.code ({ cls := "QuotaPeers$Message", name := "isHeadWrong", desc := "(LQuotaPeers$Command;)Z" } : Jvm.MethodName) prog_6_method_17_code (2 : Nat) (Option.some Jvm.ClassFile.FieldType.boolean)) ∈ lw_all := lw_g (lw_at lw_m3 201 rfl) rfl
theorem w815 : (Jvm.Cond.methodLink "QuotaPeers$Message" (45 : Nat) ({ cls := "QuotaPeers$Message", name := "isWrong", desc := "(II)Z" } : Jvm.MethodName)) ∈ lw_all := lw_g (lw_at lw_m3 202 rfl) rfl
theorem w817 : (Jvm.Cond.instanceMethod ({ cls := "QuotaPeers$Message", name := "isWrong", desc := "(II)Z" } : Jvm.MethodName)) ∈ lw_all := lw_g (lw_at lw_m3 204 rfl) rfl
theorem w818 : (Jvm.Cond.code ({ cls := "QuotaPeers$Message", name := "isWrong", desc := "(II)Z" } : Jvm.MethodName) prog_6_method_6_code (3 : Nat) (Option.some Jvm.ClassFile.FieldType.boolean)) ∈ lw_all := lw_g (lw_at lw_m3 205 rfl) rfl
theorem w819 : (Jvm.Cond.methodLink "QuotaPeers$Message" (60 : Nat) ({ cls := "QuotaPeers$Message", name := "walk", desc := "(LQuotaPeers$Message;III)Z" } : Jvm.MethodName)) ∈ lw_all := lw_g (lw_at lw_m3 206 rfl) rfl
theorem w820 : (Jvm.Cond.static ({ cls := "QuotaPeers$Message", name := "walk", desc := "(LQuotaPeers$Message;III)Z" } : Jvm.MethodName)) ∈ lw_all := lw_g (lw_at lw_m3 207 rfl) rfl
theorem w821 : (Jvm.Cond.code ({ cls := "QuotaPeers$Message", name := "walk", desc := "(LQuotaPeers$Message;III)Z" } : Jvm.MethodName) prog_6_method_7_code (10 : Nat) (Option.some Jvm.ClassFile.FieldType.boolean)) ∈ lw_all := lw_g (lw_at lw_m3 208 rfl) rfl
theorem w822 : (Jvm.Cond.methodLink "QuotaPeers$Message" (53 : Nat) ({ cls := "QuotaPeers$Message", name := "kindOf", desc := "(I)I" } : Jvm.MethodName)) ∈ lw_all := lw_g (lw_at lw_m3 209 rfl) rfl
theorem w823 : (Jvm.Cond.static ({ cls := "QuotaPeers$Message", name := "kindOf", desc := "(I)I" } : Jvm.MethodName)) ∈ lw_all := lw_g (lw_at lw_m3 210 rfl) rfl
theorem w824 : (Jvm.Cond.code ({ cls := "QuotaPeers$Message", name := "kindOf", desc := "(I)I" } : Jvm.MethodName) prog_6_method_4_code (1 : Nat) (Option.some Jvm.ClassFile.FieldType.int)) ∈ lw_all := lw_g (lw_at lw_m3 211 rfl) rfl
theorem w825 : (Jvm.Cond.methodLink "QuotaPeers$Message" (57 : Nat) ({ cls := "QuotaPeers$Message", name := "fits", desc := "(II)Z" } : Jvm.MethodName)) ∈ lw_all := lw_g (lw_at lw_m3 212 rfl) rfl
theorem w826 : (Jvm.Cond.static ({ cls := "QuotaPeers$Message", name := "fits", desc := "(II)Z" } : Jvm.MethodName)) ∈ lw_all := lw_g (lw_at lw_m3 213 rfl) rfl
theorem w827 : (Jvm.Cond.code ({ cls := "QuotaPeers$Message", name := "fits", desc := "(II)Z" } : Jvm.MethodName) prog_6_method_5_code (2 : Nat) (Option.some Jvm.ClassFile.FieldType.boolean)) ∈ lw_all := lw_g (lw_at lw_m3 214 rfl) rfl
theorem w828 : (Jvm.Cond.methodLink "QuotaPeers$Message" (64 : Nat) ({ cls := "QuotaPeers$Message", name := "note", desc := "(III)V" } : Jvm.MethodName)) ∈ lw_all := lw_g (lw_at lw_m3 215 rfl) rfl
theorem w830 : (Jvm.Cond.instanceMethod ({ cls := "QuotaPeers$Message", name := "note", desc := "(III)V" } : Jvm.MethodName)) ∈ lw_all := lw_g (lw_at lw_m3 217 rfl) rfl
theorem w831 : (Jvm.Cond.code ({ cls := "QuotaPeers$Message", name := "note", desc := "(III)V" } : Jvm.MethodName) prog_6_method_8_code (4 : Nat) (Option.none : Option Jvm.ClassFile.FieldType)) ∈ lw_all := lw_g (lw_at lw_m3 218 rfl) rfl
theorem w832 : (Jvm.Cond.methodLink "QuotaPeers$Message" (134 : Nat) ({ cls := "QuotaPeers$Message", name := "isLacking", desc := "(LQuotaPeers$Command;)Z" } : Jvm.MethodName)) ∈ lw_all := lw_g (lw_at lw_m3 219 rfl) rfl
theorem w834 : (Jvm.Cond.instanceMethod ({ cls := "QuotaPeers$Message", name := "isLacking", desc := "(LQuotaPeers$Command;)Z" } : Jvm.MethodName)) ∈ lw_all := lw_g (lw_at lw_m3 221 rfl) rfl
theorem w835 : (Jvm.Cond.code ({ cls := "QuotaPeers$Message", name := "isLacking", desc := "(LQuotaPeers$Command;)Z" } : Jvm.MethodName) prog_6_method_18_code (6 : Nat) (Option.some Jvm.ClassFile.FieldType.boolean)) ∈ lw_all := lw_g (lw_at lw_m3 222 rfl) rfl
theorem w836 : (Jvm.Cond.methodLink "QuotaPeers$Message" (110 : Nat) ({ cls := "QuotaPeers$Message", name := "has", desc := "(I)Z" } : Jvm.MethodName)) ∈ lw_all := lw_g (lw_at lw_m3 223 rfl) rfl
theorem w837 : (Jvm.Cond.instanceMethod ({ cls := "QuotaPeers$Message", name := "has", desc := "(I)Z" } : Jvm.MethodName)) ∈ lw_all := lw_g (lw_at lw_m3 224 rfl) rfl
theorem w838 : (Jvm.Cond.selects "QuotaPeers$Message" ({ cls := "QuotaPeers$Message", name := "has", desc := "(I)Z" } : Jvm.MethodName) ({ cls := "QuotaPeers$Message", name := "has", desc := "(I)Z" } : Jvm.MethodName)) ∈ lw_all := lw_g (lw_at lw_m3 225 rfl) rfl
theorem w839 : (Jvm.Cond.code ({ cls := "QuotaPeers$Message", name := "has", desc := "(I)Z" } : Jvm.MethodName) prog_6_method_11_code (2 : Nat) (Option.some Jvm.ClassFile.FieldType.boolean)) ∈ lw_all := lw_g (lw_at lw_m3 226 rfl) rfl
theorem w840 : (Jvm.Cond.methodLink "QuotaPeers$Message" (71 : Nat) ({ cls := "QuotaPeers$Message", name := "find", desc := "(I)I" } : Jvm.MethodName)) ∈ lw_all := lw_g (lw_at lw_m3 227 rfl) rfl
theorem w841 : (Jvm.Cond.instanceMethod ({ cls := "QuotaPeers$Message", name := "find", desc := "(I)I" } : Jvm.MethodName)) ∈ lw_all := lw_g (lw_at lw_m3 228 rfl) rfl
theorem w842 : (Jvm.Cond.selects "QuotaPeers$Message" ({ cls := "QuotaPeers$Message", name := "find", desc := "(I)I" } : Jvm.MethodName) ({ cls := "QuotaPeers$Message", name := "find", desc := "(I)I" } : Jvm.MethodName)) ∈ lw_all := lw_g (lw_at lw_m3 229 rfl) rfl
theorem w843 : (Jvm.Cond.code ({ cls := "QuotaPeers$Message", name := "find", desc := "(I)I" } : Jvm.MethodName) prog_6_method_10_code (3 : Nat) (Option.some Jvm.ClassFile.FieldType.int)) ∈ lw_all := lw_g (lw_at lw_m3 230 rfl) rfl
theorem w844 : (Jvm.Cond.methodLink "QuotaPeers$Message" (114 : Nat) ({ cls := "QuotaPeers$Message", name := "many", desc := "(I)I" } : Jvm.MethodName)) ∈ lw_all := lw_g (lw_at lw_m3 231 rfl) rfl
theorem w846 : (Jvm.Cond.instanceMethod ({ cls := "QuotaPeers$Message", name := "many", desc := "(I)I" } : Jvm.MethodName)) ∈ lw_all := lw_g (lw_at lw_m3 233 rfl) rfl
theorem w847 : (Jvm.Cond.code ({ cls := "QuotaPeers$Message", name := "many", desc := "(I)I" } : Jvm.MethodName) prog_6_method_9_code (4 : Nat) (Option.some Jvm.ClassFile.FieldType.int)) ∈ lw_all := lw_g (lw_at lw_m3 234 rfl) rfl
theorem w848 : (Jvm.Cond.methodLink "QuotaPeers" (363 : Nat) ({ cls := "QuotaPeers", name := "hear", desc := "(LQuotaPeers$Link;LQuotaPeers$Message;)V" } : Jvm.MethodName)) ∈ lw_all := lw_g (lw_at lw_m3 235 rfl) rfl
theorem w850 : (Jvm.Cond.instanceMethod ({ cls := "QuotaPeers", name := "hear", desc := "(LQuotaPeers$Link;LQuotaPeers$Message;)V" } : Jvm.MethodName)) ∈ lw_all := lw_g (lw_at lw_m3 237 rfl) rfl
theorem w851 : (Jvm.Cond.code ({ cls := "QuotaPeers", name := "hear", desc := "(LQuotaPeers$Link;LQuotaPeers$Message;)V" } : Jvm.MethodName) prog_1_method_37_code (4 : Nat) (Option.none : Option Jvm.ClassFile.FieldType)) ∈ lw_all := lw_g (lw_at lw_m3 238 rfl) rfl
theorem w852 : (Jvm.Cond.methodLink "QuotaPeers" (367 : Nat) ({ cls := "QuotaPeers", name := "strange", desc := "(LQuotaPeers$Link;LQuotaPeers$Message;)V" } : Jvm.MethodName)) ∈ lw_all := lw_g (lw_at lw_m3 239 rfl) rfl
theorem w854 : (Jvm.Cond.instanceMethod ({ cls := "QuotaPeers", name := "strange", desc := "(LQuotaPeers$Link;LQuotaPeers$Message;)V" } : Jvm.MethodName)) ∈ lw_all := lw_g (lw_at lw_m4 1 rfl) rfl
theorem w855 : (Jvm.Cond.code ({ cls := "QuotaPeers", name := "strange", desc := "(LQuotaPeers$Link;LQuotaPeers$Message;)V" } : Jvm.MethodName) prog_1_method_39_code (5 : Nat) (Option.none : Option Jvm.ClassFile.FieldType)) ∈ lw_all := lw_g (lw_at lw_m4 2 rfl) rfl
theorem w856 : (Jvm.Cond.methodLink "QuotaPeers" (386 : Nat) ({ cls := "QuotaPeers$Message", name := "isRequest", desc := "()Z" } : Jvm.MethodName)) ∈ lw_all := lw_g (lw_at lw_m4 3 rfl) rfl
theorem w857 : (Jvm.Cond.methodLink "QuotaPeers" (389 : Nat) ({ cls := "QuotaPeers", name := "answerWrong", desc := "(LQuotaPeers$Link;LQuotaPeers$Message;)V" } : Jvm.MethodName)) ∈ lw_all := lw_g (lw_at lw_m4 4 rfl) rfl
theorem w859 : (Jvm.Cond.instanceMethod ({ cls := "QuotaPeers", name := "answerWrong", desc := "(LQuotaPeers$Link;LQuotaPeers$Message;)V" } : Jvm.MethodName)) ∈ lw_all := lw_g (lw_at lw_m4 6 rfl) rfl
theorem w860 : (Jvm.Cond.code ({ cls := "QuotaPeers", name := "answerWrong", desc := "(LQuotaPeers$Link;LQuotaPeers$Message;)V" } : Jvm.MethodName) prog_1_method_18_code (3 : Nat) (Option.none : Option Jvm.ClassFile.FieldType)) ∈ lw_all := lw_g (lw_at lw_m4 7 rfl) rfl
theorem w861 : (Jvm.Cond.methodLink "QuotaPeers" (229 : Nat) ({ cls := "QuotaPeers", name := "answer", desc := "(LQuotaPeers$Message;I)V" } : Jvm.MethodName)) ∈ lw_all := lw_g (lw_at lw_m4 8 rfl) rfl
theorem w863 : (Jvm.Cond.instanceMethod ({ cls := "QuotaPeers", name := "answer", desc := "(LQuotaPeers$Message;I)V" } : Jvm.MethodName)) ∈ lw_all := lw_g (lw_at lw_m4 10 rfl) rfl
theorem w864 : (Jvm.Cond.code ({ cls := "QuotaPeers", name := "answer", desc := "(LQuotaPeers$Message;I)V" } : Jvm.MethodName) prog_1_method_17_code (4 : Nat) (Option.none : Option Jvm.ClassFile.FieldType)) ∈ lw_all := lw_g (lw_at lw_m4 11 rfl) rfl
theorem w865 : (Jvm.Cond.methodLink "QuotaPeers" (210 : Nat) ({ cls := "QuotaPeers$Message", name := "find", desc := "(I)I" } : Jvm.MethodName)) ∈ lw_all := lw_g (lw_at lw_m4 12 rfl) rfl
theorem w866 : (Jvm.Cond.methodLink "QuotaPeers" (222 : Nat) ({ cls := "QuotaPeers$Page", name := "octets", desc := "(I[BII)V" } : Jvm.MethodName)) ∈ lw_all := lw_g (lw_at lw_m4 13 rfl) rfl
theorem w867 : (Jvm.Cond.instanceMethod ({ cls := "QuotaPeers$Page", name := "octets", desc := "(I[BII)V" } : Jvm.MethodName)) ∈ lw_all := lw_g (lw_at lw_m4 14 rfl) rfl
theorem w868 : (Jvm.Cond.selects "QuotaPeers$Page" ({ cls := "QuotaPeers$Page", name := "octets", desc := "(I[BII)V" } : Jvm.MethodName) ({ cls := "QuotaPeers$Page", name := "octets", desc := "(I[BII)V" } : Jvm.MethodName)) ∈ lw_all := lw_g (lw_at lw_m4 15 rfl) rfl
theorem w869 : (Jvm.Cond.code ({ cls := "QuotaPeers$Page", name := "octets", desc := "(I[BII)V" } : Jvm.MethodName) prog_7_method_10_code (5 : Nat) (Option.none : Option Jvm.ClassFile.FieldType)) ∈ lw_all := lw_g (lw_at lw_m4 16 rfl) rfl
theorem w870 : (Jvm.Cond.methodLink "QuotaPeers" (233 : Nat) ({ cls := "QuotaPeers$Message", name := "tellsFailed", desc := "()Z" } : Jvm.MethodName)) ∈ lw_all := lw_g (lw_at lw_m4 17 rfl) rfl
theorem w871 : (Jvm.Cond.instanceMethod ({ cls := "QuotaPeers$Message", name := "tellsFailed", desc := "()Z" } : Jvm.MethodName)) ∈ lw_all := lw_g (lw_at lw_m4 18 rfl) rfl
theorem w872 : (Jvm.Cond.selects "QuotaPeers$Message" ({ cls := "QuotaPeers$Message", name := "tellsFailed", desc := "()Z" } : Jvm.MethodName) ({ cls := "QuotaPeers$Message", name := "tellsFailed", desc := "()Z" } : Jvm.MethodName)) ∈ lw_all := lw_g (lw_at lw_m4 19 rfl) rfl
theorem w873 : (Jvm.Cond.code ({ cls := "QuotaPeers$Message", name := "tellsFailed", desc := "()Z" } : Jvm.MethodName) prog_6_method_20_code (1 : Nat) (Option.some Jvm.ClassFile.FieldType.boolean)) ∈ lw_all := lw_g (lw_at lw_m4 20 rfl) rfl
theorem w874 : (Jvm.Cond.methodLink "QuotaPeers" (240 : Nat) ({ cls := "QuotaPeers$Page", name := "failed", desc := "(I)V" } : Jvm.MethodName)) ∈ lw_all := lw_g (lw_at lw_m4 21 rfl) rfl
theorem w875 : (Jvm.Cond.instanceMethod ({ cls := "QuotaPeers$Page", name := "failed", desc := "(I)V" } : Jvm.MethodName)) ∈ lw_all := lw_g (lw_at lw_m4 22 rfl) rfl
theorem w876 : (Jvm.Cond.selects "QuotaPeers$Page" ({ cls := "QuotaPeers$Page", name := "failed", desc := "(I)V" } : Jvm.MethodName) ({ cls := "QuotaPeers$Page", name := "failed", desc := "(I)V" } : Jvm.MethodName)) ∈ lw_all := lw_g (lw_at lw_m4 23 rfl) rfl
theorem w877 : (Jvm.Cond.code ({ cls := "QuotaPeers$Page", name := "failed", desc := "(I)V" } : Jvm.MethodName) prog_7_method_13_code (2 : Nat) (Option.none : Option Jvm.ClassFile.FieldType)) ∈ lw_all := lw_g (lw_at lw_m4 24 rfl) rfl
theorem w878 : (Jvm.Cond.methodLink "QuotaPeers" (392 : Nat) ({ cls := "QuotaPeers$Message", name := "isText", desc := "(ILQuotaPeers$Text;)Z" } : Jvm.MethodName)) ∈ lw_all := lw_g (lw_at lw_m4 25 rfl) rfl
theorem w879 : (Jvm.Cond.instanceMethod ({ cls := "QuotaPeers$Message", name := "isText", desc := "(ILQuotaPeers$Text;)Z" } : Jvm.MethodName)) ∈ lw_all := lw_g (lw_at lw_m4 26 rfl) rfl
theorem w880 : (Jvm.Cond.selects "QuotaPeers$Message" ({ cls := "QuotaPeers$Message", name := "isText", desc := "(ILQuotaPeers$Text;)Z" } : Jvm.MethodName) ({ cls := "QuotaPeers$Message", name := "isText", desc := "(ILQuotaPeers$Text;)Z" } : Jvm.MethodName)) ∈ lw_all := lw_g (lw_at lw_m4 27 rfl) rfl
theorem w881 : (Jvm.Cond.code ({ cls := "QuotaPeers$Message", name := "isText", desc := "(ILQuotaPeers$Text;)Z" } : Jvm.MethodName) prog_6_method_13_code (4 : Nat) (Option.some Jvm.ClassFile.FieldType.boolean)) ∈ lw_all := lw_g (lw_at lw_m4 28 rfl) rfl
theorem w882 : (Jvm.Cond.methodLink "QuotaPeers$Message" (76 : Nat) ({ cls := "QuotaPeers$Text", name := "isIn", desc := "([BII)Z" } : Jvm.MethodName)) ∈ lw_all := lw_g (lw_at lw_m4 29 rfl) rfl
theorem w883 : (Jvm.Cond.instanceMethod ({ cls := "QuotaPeers$Text", name := "isIn", desc := "([BII)Z" } : Jvm.MethodName)) ∈ lw_all := lw_g (lw_at lw_m4 30 rfl) rfl
theorem w884 : (Jvm.Cond.selects "QuotaPeers$Text" ({ cls := "QuotaPeers$Text", name := "isIn", desc := "([BII)Z" } : Jvm.MethodName) ({ cls := "QuotaPeers$Text", name := "isIn", desc := "([BII)Z" } : Jvm.MethodName)) ∈ lw_all := lw_g (lw_at lw_m4 31 rfl) rfl
theorem w885 : (Jvm.Cond.code ({ cls := "QuotaPeers$Text", name := "isIn", desc := "([BII)Z" } : Jvm.MethodName) prog_11_method_7_code (6 : Nat) (Option.some Jvm.ClassFile.FieldType.boolean)) ∈ lw_all := lw_g (lw_at lw_m4 32 rfl) rfl
theorem w886 : (Jvm.Cond.methodLink "QuotaPeers" (396 : Nat) ({ cls := "QuotaPeers", name := "speaks", desc := "(LQuotaPeers$Message;)Z" } : Jvm.MethodName)) ∈ lw_all := lw_g (lw_at lw_m4 33 rfl) rfl
theorem w887 : (Jvm.Cond.static ({ cls := "QuotaPeers", name := "speaks", desc := "(LQuotaPeers$Message;)Z" } : Jvm.MethodName)) ∈ lw_all := lw_g (lw_at lw_m4 34 rfl) rfl
theorem w888 : (Jvm.Cond.code ({ cls := "QuotaPeers", name := "speaks", desc := "(LQuotaPeers$Message;)Z" } : Jvm.MethodName) prog_1_method_40_code (3 : Nat) (Option.some Jvm.ClassFile.FieldType.boolean)) ∈ lw_all := lw_g (lw_at lw_m4 35 rfl) rfl
theorem w889 : (Jvm.Cond.methodLinkNest "QuotaPeers" (410 : Nat) ({ cls := "QuotaPeers$Message", name := "get", desc := "(II)J" } : Jvm.MethodName) "QuotaPeers") ∈ lw_tbl := lw_at lw_m4 36 rfl
theorem w890 : (Jvm.Cond.methodLink "QuotaPeers" (400 : Nat) ({ cls := "QuotaPeers", name := "answerPlain", desc := "(LQuotaPeers$Link;LQuotaPeers$Message;I)V" } : Jvm.MethodName)) ∈ lw_all := lw_g (lw_at lw_m4 37 rfl) rfl
theorem w892 : (Jvm.Cond.instanceMethod ({ cls := "QuotaPeers", name := "answerPlain", desc := "(LQuotaPeers$Link;LQuotaPeers$Message;I)V" } : Jvm.MethodName)) ∈ lw_all := lw_g (lw_at lw_m4 39 rfl) rfl
theorem w893 : (Jvm.Cond.code ({ cls := "QuotaPeers", name := "answerPlain", desc := "(LQuotaPeers$Link;LQuotaPeers$Message;I)V" } : Jvm.MethodName) prog_1_method_19_code (4 : Nat) (Option.none : Option Jvm.ClassFile.FieldType)) ∈ lw_all := lw_g (lw_at lw_m4 40 rfl) rfl
theorem w894 : (Jvm.Cond.methodLink "QuotaPeers" (370 : Nat) ({ cls := "QuotaPeers", name := "asking", desc := "(LQuotaPeers$Peer;LQuotaPeers$Message;)V" } : Jvm.MethodName)) ∈ lw_all := lw_g (lw_at lw_m4 41 rfl) rfl
theorem w896 : (Jvm.Cond.instanceMethod ({ cls := "QuotaPeers", name := "asking", desc := "(LQuotaPeers$Peer;LQuotaPeers$Message;)V" } : Jvm.MethodName)) ∈ lw_all := lw_g (lw_at lw_m4 43 rfl) rfl
theorem w897 : (Jvm.Cond.code ({ cls := "QuotaPeers", name := "asking", desc := "(LQuotaPeers$Peer;LQuotaPeers$Message;)V" } : Jvm.MethodName) prog_1_method_41_code (4 : Nat) (Option.none : Option Jvm.ClassFile.FieldType)) ∈ lw_all := lw_g (lw_at lw_m4 44 rfl) rfl
theorem w898 : (Jvm.Cond.methodLink "QuotaPeers" (382 : Nat) ({ cls := "QuotaPeers", name := "isAnswer", desc := "(LQuotaPeers$Message;II)Z" } : Jvm.MethodName)) ∈ lw_all := lw_g (lw_at lw_m4 45 rfl) rfl
theorem w899 : (Jvm.Cond.static ({ cls := "QuotaPeers", name := "isAnswer", desc := "(LQuotaPeers$Message;II)Z" } : Jvm.MethodName)) ∈ lw_all := lw_g (lw_at lw_m4 46 rfl) rfl
theorem w900 : (Jvm.Cond.code ({ cls := "QuotaPeers", name := "isAnswer", desc := "(LQuotaPeers$Message;II)Z" } : Jvm.MethodName) prog_1_method_38_code (3 : Nat) (Option.some Jvm.ClassFile.FieldType.boolean)) ∈ lw_all := lw_g (lw_at lw_m4 47 rfl) rfl
theorem w901 : (Jvm.Cond.methodLink "QuotaPeers" (414 : Nat) ({ cls := "QuotaPeers$Message", name := "number", desc := "(I)J" } : Jvm.MethodName)) ∈ lw_all := lw_g (lw_at lw_m4 48 rfl) rfl
theorem w902 : (Jvm.Cond.instanceMethod ({ cls := "QuotaPeers$Message", name := "number", desc := "(I)J" } : Jvm.MethodName)) ∈ lw_all := lw_g (lw_at lw_m4 49 rfl) rfl
theorem w903 : (Jvm.Cond.selects "QuotaPeers$Message" ({ cls := "QuotaPeers$Message", name := "number", desc := "(I)J" } : Jvm.MethodName) ({ cls := "QuotaPeers$Message", name := "number", desc := "(I)J" } : Jvm.MethodName)) ∈ lw_all := lw_g (lw_at lw_m4 50 rfl) rfl
theorem w904 : (Jvm.Cond.code ({ cls := "QuotaPeers$Message", name := "number", desc := "(I)J" } : Jvm.MethodName) prog_6_method_12_code (3 : Nat) (Option.some Jvm.ClassFile.FieldType.long)) ∈ lw_all := lw_g (lw_at lw_m4 51 rfl) rfl
theorem w905 : (Jvm.Cond.constantLong "QuotaPeers$Message" (74 : Nat) (-1 : Int64)) ∈ lw_all := lw_g (lw_at lw_m4 52 rfl) rfl
theorem w906 : (Jvm.Cond.methodLink "QuotaPeers" (374 : Nat) ({ cls := "QuotaPeers", name := "isHeard", desc := "(LQuotaPeers$Peer;LQuotaPeers$Message;)Z" } : Jvm.MethodName)) ∈ lw_all := lw_g (lw_at lw_m4 53 rfl) rfl
theorem w908 : (Jvm.Cond.instanceMethod ({ cls := "QuotaPeers", name := "isHeard", desc := "(LQuotaPeers$Peer;LQuotaPeers$Message;)Z" } : Jvm.MethodName)) ∈ lw_all := lw_g (lw_at lw_m4 55 rfl) rfl
theorem w909 : (Jvm.Cond.code ({ cls := "QuotaPeers", name := "isHeard", desc := "(LQuotaPeers$Peer;LQuotaPeers$Message;)Z" } : Jvm.MethodName) prog_1_method_42_code (5 : Nat) (Option.some Jvm.ClassFile.FieldType.boolean)) ∈ lw_all := lw_g (lw_at lw_m4 56 rfl) rfl
theorem w910 : (Jvm.Cond.methodLink "QuotaPeers" (378 : Nat) ({ cls := "QuotaPeers", name := "open", desc := "(LQuotaPeers$Peer;LQuotaPeers$Link;LQuotaPeers$Message;)V" } : Jvm.MethodName)) ∈ lw_all := lw_g (lw_at lw_m4 57 rfl) rfl
theorem w912 : (Jvm.Cond.instanceMethod ({ cls := "QuotaPeers", name := "open", desc := "(LQuotaPeers$Peer;LQuotaPeers$Link;LQuotaPeers$Message;)V" } : Jvm.MethodName)) ∈ lw_all := lw_g (lw_at lw_m4 59 rfl) rfl
theorem w913 : (Jvm.Cond.code ({ cls := "QuotaPeers", name := "open", desc := "(LQuotaPeers$Peer;LQuotaPeers$Link;LQuotaPeers$Message;)V" } : Jvm.MethodName) prog_1_method_49_code (4 : Nat) (Option.none : Option Jvm.ClassFile.FieldType)) ∈ lw_all := lw_g (lw_at lw_m4 60 rfl) rfl
theorem w914 : (Jvm.Cond.methodLink "QuotaPeers" (471 : Nat) ({ cls := "QuotaPeers", name := "askAnswered", desc := "(LQuotaPeers$Peer;LQuotaPeers$Message;)V" } : Jvm.MethodName)) ∈ lw_all := lw_g (lw_at lw_m4 61 rfl) rfl
theorem w916 : (Jvm.Cond.instanceMethod ({ cls := "QuotaPeers", name := "askAnswered", desc := "(LQuotaPeers$Peer;LQuotaPeers$Message;)V" } : Jvm.MethodName)) ∈ lw_all := lw_g (lw_at lw_m4 63 rfl) rfl
theorem w917 : (Jvm.Cond.code ({ cls := "QuotaPeers", name := "askAnswered", desc := "(LQuotaPeers$Peer;LQuotaPeers$Message;)V" } : Jvm.MethodName) prog_1_method_48_code (5 : Nat) (Option.none : Option Jvm.ClassFile.FieldType)) ∈ lw_all := lw_g (lw_at lw_m4 64 rfl) rfl
theorem w918 : (Jvm.Cond.methodLink "QuotaPeers" (465 : Nat) ({ cls := "java/lang/Math", name := "max", desc := "(JJ)J" } : Jvm.MethodName)) ∈ lw_all := lw_g (lw_at lw_m4 65 rfl) rfl
theorem w919 : (Jvm.Cond.static ({ cls := "java/lang/Math", name := "max", desc := "(JJ)J" } : Jvm.MethodName)) ∈ lw_all := lw_g (lw_at lw_m4 66 rfl) rfl
theorem w920 : (Jvm.Cond.code ({ cls := "java/lang/Math", name := "max", desc := "(JJ)J" } : Jvm.MethodName) prog_16_method_66_code (4 : Nat) (Option.some Jvm.ClassFile.FieldType.long)) ∈ lw_all := lw_g (lw_at lw_m4 67 rfl) rfl
theorem w921 : (Jvm.Cond.methodLink "QuotaPeers" (474 : Nat) ({ cls := "QuotaPeers", name := "credit", desc := "(LQuotaPeers$Peer;LQuotaPeers$Link;LQuotaPeers$Message;)V" } : Jvm.MethodName)) ∈ lw_all := lw_g (lw_at lw_m4 68 rfl) rfl
theorem w923 : (Jvm.Cond.instanceMethod ({ cls := "QuotaPeers", name := "credit", desc := "(LQuotaPeers$Peer;LQuotaPeers$Link;LQuotaPeers$Message;)V" } : Jvm.MethodName)) ∈ lw_all := lw_g (lw_at lw_m4 70 rfl) rfl
theorem w924 : (Jvm.Cond.code ({ cls := "QuotaPeers", name := "credit", desc := "(LQuotaPeers$Peer;LQuotaPeers$Link;LQuotaPeers$Message;)V" } : Jvm.MethodName) prog_1_method_54_code (6 : Nat) (Option.none : Option Jvm.ClassFile.FieldType)) ∈ lw_all := lw_g (lw_at lw_m4 71 rfl) rfl
theorem w925 : (Jvm.Cond.methodLink "QuotaPeers" (502 : Nat) ({ cls := "QuotaPeers", name := "keptFor", desc := "(LQuotaPeers$Message;)LQuotaPeers$Answer;" } : Jvm.MethodName)) ∈ lw_all := lw_g (lw_at lw_m4 72 rfl) rfl
theorem w927 : (Jvm.Cond.instanceMethod ({ cls := "QuotaPeers", name := "keptFor", desc := "(LQuotaPeers$Message;)LQuotaPeers$Answer;" } : Jvm.MethodName)) ∈ lw_all := lw_g (lw_at lw_m4 74 rfl) rfl
theorem w928 : (Jvm.Cond.code ({ cls := "QuotaPeers", name := "keptFor", desc := "(LQuotaPeers$Message;)LQuotaPeers$Answer;" } : Jvm.MethodName) prog_1_method_52_code (3 : Nat) (Option.some (Jvm.ClassFile.FieldType.object "QuotaPeers$Answer"))) ∈ lw_all := lw_g (lw_at lw_m4 75 rfl) rfl
theorem w929 : (Jvm.Cond.methodLink "QuotaPeers" (486 : Nat) ({ cls := "QuotaPeers", name := "forget", desc := "()V" } : Jvm.MethodName)) ∈ lw_all := lw_g (lw_at lw_m4 76 rfl) rfl
theorem w931 : (Jvm.Cond.instanceMethod ({ cls := "QuotaPeers", name := "forget", desc := "()V" } : Jvm.MethodName)) ∈ lw_all := lw_g (lw_at lw_m4 78 rfl) rfl
theorem w932 : (Jvm.Cond.code ({ cls := "QuotaPeers", name := "forget", desc := "()V" } : Jvm.MethodName) prog_1_method_50_code (1 : Nat) (Option.none : Option Jvm.ClassFile.FieldType)) ∈ lw_all := lw_g (lw_at lw_m4 79 rfl) rfl
theorem w933 : (Jvm.Cond.methodLink "QuotaPeers" (483 : Nat) ({ cls := "QuotaPeers", name := "dropFirst", desc := "()V" } : Jvm.MethodName)) ∈ lw_all := lw_g (lw_at lw_m4 80 rfl) rfl
theorem w935 : (Jvm.Cond.instanceMethod ({ cls := "QuotaPeers", name := "dropFirst", desc := "()V" } : Jvm.MethodName)) ∈ lw_all := lw_g (lw_at lw_m4 82 rfl) rfl
theorem w936 : (Jvm.Cond.code ({ cls := "QuotaPeers", name := "dropFirst", desc := "()V" } : Jvm.MethodName) prog_1_method_51_code (3 : Nat) (Option.none : Option Jvm.ClassFile.FieldType)) ∈ lw_all := lw_g (lw_at lw_m4 83 rfl) rfl
theorem w937 : (Jvm.Cond.methodLink "QuotaPeers" (496 : Nat) ({ cls := "java/lang/System", name := "arraycopy", desc := "(Ljava/lang/Object;ILjava/lang/Object;II)V" } : Jvm.MethodName)) ∈ lw_all := lw_g (lw_at lw_m4 84 rfl) rfl
theorem w938 : (Jvm.Cond.methodLinkNest "QuotaPeers" (506 : Nat) ({ cls := "QuotaPeers$Page", name := "set", desc := "(IJI)V" } : Jvm.MethodName) "QuotaPeers") ∈ lw_tbl := lw_at lw_m4 85 rfl
theorem w939 : (Jvm.Cond.methodLink "QuotaPeers" (516 : Nat) ({ cls := "QuotaPeers", name := "decide", desc := "(LQuotaPeers$Peer;LQuotaPeers$Message;)I" } : Jvm.MethodName)) ∈ lw_all := lw_g (lw_at lw_m4 86 rfl) rfl
theorem w941 : (Jvm.Cond.instanceMethod ({ cls := "QuotaPeers", name := "decide", desc := "(LQuotaPeers$Peer;LQuotaPeers$Message;)I" } : Jvm.MethodName)) ∈ lw_all := lw_g (lw_at lw_m4 88 rfl) rfl
theorem w942 : (Jvm.Cond.code ({ cls := "QuotaPeers", name := "decide", desc := "(LQuotaPeers$Peer;LQuotaPeers$Message;)I" } : Jvm.MethodName) prog_1_method_60_code (6 : Nat) (Option.some Jvm.ClassFile.FieldType.int)) ∈ lw_all := lw_g (lw_at lw_m4 89 rfl) rfl
theorem w943 : (Jvm.Cond.constantLong "QuotaPeers" (556 : Nat) (5 : Int64)) ∈ lw_all := lw_g (lw_at lw_m4 90 rfl) rfl
theorem w944 : (Jvm.Cond.methodLink "QuotaPeers" (558 : Nat) ({ cls := "java/lang/Math", name := "min", desc := "(JJ)J" } : Jvm.MethodName)) ∈ lw_all := lw_g (lw_at lw_m4 91 rfl) rfl
theorem w945 : (Jvm.Cond.static ({ cls := "java/lang/Math", name := "min", desc := "(JJ)J" } : Jvm.MethodName)) ∈ lw_all := lw_g (lw_at lw_m4 92 rfl) rfl
theorem w946 : (Jvm.Cond.code ({ cls := "java/lang/Math", name := "min", desc := "(JJ)J" } : Jvm.MethodName) prog_16_method_70_code (4 : Nat) (Option.some Jvm.ClassFile.FieldType.long)) ∈ lw_all := lw_g (lw_at lw_m4 93 rfl) rfl
theorem w947 : (Jvm.Cond.methodLink "QuotaPeers" (561 : Nat) ({ cls := "QuotaPeers", name := "areUnitsRight", desc := "(LQuotaPeers$Message;I)Z" } : Jvm.MethodName)) ∈ lw_all := lw_g (lw_at lw_m4 94 rfl) rfl
theorem w948 : (Jvm.Cond.static ({ cls := "QuotaPeers", name := "areUnitsRight", desc := "(LQuotaPeers$Message;I)Z" } : Jvm.MethodName)) ∈ lw_all := lw_g (lw_at lw_m4 95 rfl) rfl
theorem w949 : (Jvm.Cond.code ({ cls := "QuotaPeers", name := "areUnitsRight", desc := "(LQuotaPeers$Message;I)Z" } : Jvm.MethodName) prog_1_method_56_code (3 : Nat) (Option.some Jvm.ClassFile.FieldType.boolean)) ∈ lw_all := lw_g (lw_at lw_m4 96 rfl) rfl
theorem w950 : (Jvm.Cond.methodLink "QuotaPeers" (532 : Nat) ({ cls := "QuotaPeers$Message", name := "inside", desc := "(II)I" } : Jvm.MethodName)) ∈ lw_all := lw_g (lw_at lw_m4 97 rfl) rfl
theorem w951 : (Jvm.Cond.instanceMethod ({ cls := "QuotaPeers$Message", name := "inside", desc := "(II)I" } : Jvm.MethodName)) ∈ lw_all := lw_g (lw_at lw_m4 98 rfl) rfl
theorem w952 : (Jvm.Cond.selects "QuotaPeers$Message" ({ cls := "QuotaPeers$Message", name := "inside", desc := "(II)I" } : Jvm.MethodName) ({ cls := "QuotaPeers$Message", name := "inside", desc := "(II)I" } : Jvm.MethodName)) ∈ lw_all := lw_g (lw_at lw_m4 99 rfl) rfl
theorem w953 : (Jvm.Cond.code ({ cls := "QuotaPeers$Message", name := "inside", desc := "(II)I" } : Jvm.MethodName) prog_6_method_15_code (8 : Nat) (Option.some Jvm.ClassFile.FieldType.int)) ∈ lw_all := lw_g (lw_at lw_m4 100 rfl) rfl
theorem w954 : (Jvm.Cond.constantLong "QuotaPeers" (538 : Nat) (1152921504606846976 : Int64)) ∈ lw_all := lw_g (lw_at lw_m4 101 rfl) rfl
theorem w955 : (Jvm.Cond.methodLink "QuotaPeers" (565 : Nat) ({ cls := "QuotaPeers", name := "begins", desc := "(LQuotaPeers$Peer;LQuotaPeers$Message;)I" } : Jvm.MethodName)) ∈ lw_all := lw_g (lw_at lw_m4 102 rfl) rfl
theorem w957 : (Jvm.Cond.instanceMethod ({ cls := "QuotaPeers", name := "begins", desc := "(LQuotaPeers$Peer;LQuotaPeers$Message;)I" } : Jvm.MethodName)) ∈ lw_all := lw_g (lw_at lw_m4 104 rfl) rfl
theorem w958 : (Jvm.Cond.code ({ cls := "QuotaPeers", name := "begins", desc := "(LQuotaPeers$Peer;LQuotaPeers$Message;)I" } : Jvm.MethodName) prog_1_method_63_code (5 : Nat) (Option.some Jvm.ClassFile.FieldType.int)) ∈ lw_all := lw_g (lw_at lw_m4 105 rfl) rfl
theorem w959 : (Jvm.Cond.methodLink "QuotaPeers" (593 : Nat) ({ cls := "QuotaPeers", name := "accountOf", desc := "(LQuotaPeers$Message;)LQuotaPeers$Account;" } : Jvm.MethodName)) ∈ lw_all := lw_g (lw_at lw_m4 106 rfl) rfl
theorem w961 : (Jvm.Cond.instanceMethod ({ cls := "QuotaPeers", name := "accountOf", desc := "(LQuotaPeers$Message;)LQuotaPeers$Account;" } : Jvm.MethodName)) ∈ lw_all := lw_g (lw_at lw_m4 108 rfl) rfl
theorem w962 : (Jvm.Cond.code ({ cls := "QuotaPeers", name := "accountOf", desc := "(LQuotaPeers$Message;)LQuotaPeers$Account;" } : Jvm.MethodName) prog_1_method_58_code (7 : Nat) (Option.some (Jvm.ClassFile.FieldType.object "QuotaPeers$Account"))) ∈ lw_all := lw_g (lw_at lw_m4 109 rfl) rfl
theorem w963 : (Jvm.Cond.constantLong "QuotaPeers" (548 : Nat) (10 : Int64)) ∈ lw_all := lw_g (lw_at lw_m4 110 rfl) rfl
theorem w964 : (Jvm.Cond.constantLong "QuotaPeers" (550 : Nat) (48 : Int64)) ∈ lw_all := lw_g (lw_at lw_m4 111 rfl) rfl
theorem w965 : (Jvm.Cond.methodLink "QuotaPeers" (552 : Nat) ({ cls := "QuotaPeers", name := "accountAt", desc := "(J)LQuotaPeers$Account;" } : Jvm.MethodName)) ∈ lw_all := lw_g (lw_at lw_m4 112 rfl) rfl
theorem w967 : (Jvm.Cond.instanceMethod ({ cls := "QuotaPeers", name := "accountAt", desc := "(J)LQuotaPeers$Account;" } : Jvm.MethodName)) ∈ lw_all := lw_g (lw_at lw_m4 114 rfl) rfl
theorem w968 : (Jvm.Cond.code ({ cls := "QuotaPeers", name := "accountAt", desc := "(J)LQuotaPeers$Account;" } : Jvm.MethodName) prog_1_method_57_code (4 : Nat) (Option.some (Jvm.ClassFile.FieldType.object "QuotaPeers$Account"))) ∈ lw_all := lw_g (lw_at lw_m4 115 rfl) rfl
theorem w969 : (Jvm.Cond.methodLink "QuotaPeers" (597 : Nat) ({ cls := "QuotaPeers", name := "sessionOf", desc := "(LQuotaPeers$Message;)LQuotaPeers$Session;" } : Jvm.MethodName)) ∈ lw_all := lw_g (lw_at lw_m4 116 rfl) rfl
theorem w971 : (Jvm.Cond.instanceMethod ({ cls := "QuotaPeers", name := "sessionOf", desc := "(LQuotaPeers$Message;)LQuotaPeers$Session;" } : Jvm.MethodName)) ∈ lw_all := lw_g (lw_at lw_m4 118 rfl) rfl
theorem w972 : (Jvm.Cond.code ({ cls := "QuotaPeers", name := "sessionOf", desc := "(LQuotaPeers$Message;)LQuotaPeers$Session;" } : Jvm.MethodName) prog_1_method_59_code (3 : Nat) (Option.some (Jvm.ClassFile.FieldType.object "QuotaPeers$Session"))) ∈ lw_all := lw_g (lw_at lw_m4 119 rfl) rfl
theorem w973 : (Jvm.Cond.methodLink "QuotaPeers" (601 : Nat) ({ cls := "QuotaPeers$Account", name := "free", desc := "()J" } : Jvm.MethodName)) ∈ lw_all := lw_g (lw_at lw_m4 120 rfl) rfl
theorem w974 : (Jvm.Cond.instanceMethod ({ cls := "QuotaPeers$Account", name := "free", desc := "()J" } : Jvm.MethodName)) ∈ lw_all := lw_g (lw_at lw_m4 121 rfl) rfl
theorem w975 : (Jvm.Cond.selects "QuotaPeers$Account" ({ cls := "QuotaPeers$Account", name := "free", desc := "()J" } : Jvm.MethodName) ({ cls := "QuotaPeers$Account", name := "free", desc := "()J" } : Jvm.MethodName)) ∈ lw_all := lw_g (lw_at lw_m4 122 rfl) rfl
theorem w976 : (Jvm.Cond.code ({ cls := "QuotaPeers$Account", name := "free", desc := "()J" } : Jvm.MethodName) prog_2_method_2_code (1 : Nat) (Option.some Jvm.ClassFile.FieldType.long)) ∈ lw_all := lw_g (lw_at lw_m4 123 rfl) rfl
theorem w977 : (Jvm.Cond.methodLink "QuotaPeers" (491 : Nat) ({ cls := "QuotaPeers$Message", name := "take", desc := "(ILQuotaPeers$Text;)V" } : Jvm.MethodName)) ∈ lw_all := lw_g (lw_at lw_m4 124 rfl) rfl
theorem w978 : (Jvm.Cond.instanceMethod ({ cls := "QuotaPeers$Message", name := "take", desc := "(ILQuotaPeers$Text;)V" } : Jvm.MethodName)) ∈ lw_all := lw_g (lw_at lw_m4 125 rfl) rfl
theorem w979 : (Jvm.Cond.selects "QuotaPeers$Message" ({ cls := "QuotaPeers$Message", name := "take", desc := "(ILQuotaPeers$Text;)V" } : Jvm.MethodName) ({ cls := "QuotaPeers$Message", name := "take", desc := "(ILQuotaPeers$Text;)V" } : Jvm.MethodName)) ∈ lw_all := lw_g (lw_at lw_m4 126 rfl) rfl
theorem w980 : (Jvm.Cond.code ({ cls := "QuotaPeers$Message", name := "take", desc := "(ILQuotaPeers$Text;)V" } : Jvm.MethodName) prog_6_method_14_code (4 : Nat) (Option.none : Option Jvm.ClassFile.FieldType)) ∈ lw_all := lw_g (lw_at lw_m4 127 rfl) rfl
theorem w981 : (Jvm.Cond.methodLink "QuotaPeers$Message" (82 : Nat) ({ cls := "QuotaPeers$Text", name := "take", desc := "([BII)V" } : Jvm.MethodName)) ∈ lw_all := lw_g (lw_at lw_m4 128 rfl) rfl
theorem w982 : (Jvm.Cond.instanceMethod ({ cls := "QuotaPeers$Text", name := "take", desc := "([BII)V" } : Jvm.MethodName)) ∈ lw_all := lw_g (lw_at lw_m4 129 rfl) rfl
theorem w983 : (Jvm.Cond.selects "QuotaPeers$Text" ({ cls := "QuotaPeers$Text", name := "take", desc := "([BII)V" } : Jvm.MethodName) ({ cls := "QuotaPeers$Text", name := "take", desc := "([BII)V" } : Jvm.MethodName)) ∈ lw_all := lw_g (lw_at lw_m4 130 rfl) rfl
theorem w984 : (Jvm.Cond.code ({ cls := "QuotaPeers$Text", name := "take", desc := "([BII)V" } : Jvm.MethodName) prog_11_method_5_code (4 : Nat) (Option.none : Option Jvm.ClassFile.FieldType)) ∈ lw_all := lw_g (lw_at lw_m4 131 rfl) rfl
theorem w985 : (Jvm.Cond.methodLink "QuotaPeers" (609 : Nat) ({ cls := "QuotaPeers", name := "note", desc := "(LQuotaPeers$Session;LQuotaPeers$Peer;LQuotaPeers$Message;)V" } : Jvm.MethodName)) ∈ lw_all := lw_g (lw_at lw_m4 132 rfl) rfl
theorem w986 : (Jvm.Cond.static ({ cls := "QuotaPeers", name := "note", desc := "(LQuotaPeers$Session;LQuotaPeers$Peer;LQuotaPeers$Message;)V" } : Jvm.MethodName)) ∈ lw_all := lw_g (lw_at lw_m4 133 rfl) rfl
theorem w987 : (Jvm.Cond.code ({ cls := "QuotaPeers", name := "note", desc := "(LQuotaPeers$Session;LQuotaPeers$Peer;LQuotaPeers$Message;)V" } : Jvm.MethodName) prog_1_method_61_code (3 : Nat) (Option.none : Option Jvm.ClassFile.FieldType)) ∈ lw_all := lw_g (lw_at lw_m4 134 rfl) rfl
theorem w988 : (Jvm.Cond.methodLink "QuotaPeers" (613 : Nat) ({ cls := "QuotaPeers", name := "grant", desc := "(LQuotaPeers$Session;LQuotaPeers$Message;)I" } : Jvm.MethodName)) ∈ lw_all := lw_g (lw_at lw_m4 135 rfl) rfl
theorem w990 : (Jvm.Cond.instanceMethod ({ cls := "QuotaPeers", name := "grant", desc := "(LQuotaPeers$Session;LQuotaPeers$Message;)I" } : Jvm.MethodName)) ∈ lw_all := lw_g (lw_at lw_m4 137 rfl) rfl
theorem w991 : (Jvm.Cond.code ({ cls := "QuotaPeers", name := "grant", desc := "(LQuotaPeers$Session;LQuotaPeers$Message;)I" } : Jvm.MethodName) prog_1_method_62_code (5 : Nat) (Option.some Jvm.ClassFile.FieldType.int)) ∈ lw_all := lw_g (lw_at lw_m4 138 rfl) rfl
theorem w992 : (Jvm.Cond.methodLink "QuotaPeers" (582 : Nat) ({ cls := "QuotaPeers", name := "units", desc := "(LQuotaPeers$Message;I)J" } : Jvm.MethodName)) ∈ lw_all := lw_g (lw_at lw_m4 139 rfl) rfl
theorem w993 : (Jvm.Cond.static ({ cls := "QuotaPeers", name := "units", desc := "(LQuotaPeers$Message;I)J" } : Jvm.MethodName)) ∈ lw_all := lw_g (lw_at lw_m4 140 rfl) rfl
theorem w994 : (Jvm.Cond.code ({ cls := "QuotaPeers", name := "units", desc := "(LQuotaPeers$Message;I)J" } : Jvm.MethodName) prog_1_method_55_code (3 : Nat) (Option.some Jvm.ClassFile.FieldType.long)) ∈ lw_all := lw_g (lw_at lw_m4 141 rfl) rfl
theorem w995 : (Jvm.Cond.constantLong "QuotaPeers" (536 : Nat) (-1 : Int64)) ∈ lw_all := lw_g (lw_at lw_m4 142 rfl) rfl
theorem w996 : (Jvm.Cond.constantLong "QuotaPeers" (585 : Nat) (1000 : Int64)) ∈ lw_all := lw_g (lw_at lw_m4 143 rfl) rfl
theorem w997 : (Jvm.Cond.methodLink "QuotaPeers" (587 : Nat) ({ cls := "QuotaPeers$Session", name := "reserve", desc := "(J)V" } : Jvm.MethodName)) ∈ lw_all := lw_g (lw_at lw_m4 144 rfl) rfl
theorem w998 : (Jvm.Cond.instanceMethod ({ cls := "QuotaPeers$Session", name := "reserve", desc := "(J)V" } : Jvm.MethodName)) ∈ lw_all := lw_g (lw_at lw_m4 145 rfl) rfl
theorem w999 : (Jvm.Cond.selects "QuotaPeers$Session" ({ cls := "QuotaPeers$Session", name := "reserve", desc := "(J)V" } : Jvm.MethodName) ({ cls := "QuotaPeers$Session", name := "reserve", desc := "(J)V" } : Jvm.MethodName)) ∈ lw_all := lw_g (lw_at lw_m4 146 rfl) rfl
theorem w1000 : (Jvm.Cond.code ({ cls := "QuotaPeers$Session", name := "reserve", desc := "(J)V" } : Jvm.MethodName) prog_10_method_3_code (3 : Nat) (Option.none : Option Jvm.ClassFile.FieldType)) ∈ lw_all := lw_g (lw_at lw_m4 147 rfl) rfl
theorem w1001 : (Jvm.Cond.methodLink "QuotaPeers$Session" (45 : Nat) ({ cls := "QuotaPeers$Account", name := "free", desc := "()J" } : Jvm.MethodName)) ∈ lw_all := lw_g (lw_at lw_m4 148 rfl) rfl
theorem w1002 : (Jvm.Cond.methodLink "QuotaPeers$Session" (30 : Nat) ({ cls := "java/lang/Math", name := "min", desc := "(JJ)J" } : Jvm.MethodName)) ∈ lw_all := lw_g (lw_at lw_m4 149 rfl) rfl
theorem w1003 : (Jvm.Cond.methodLink "QuotaPeers" (568 : Nat) ({ cls := "QuotaPeers", name := "goesOn", desc := "(LQuotaPeers$Peer;LQuotaPeers$Message;)I" } : Jvm.MethodName)) ∈ lw_all := lw_g (lw_at lw_m4 150 rfl) rfl
theorem w1005 : (Jvm.Cond.instanceMethod ({ cls := "QuotaPeers", name := "goesOn", desc := "(LQuotaPeers$Peer;LQuotaPeers$Message;)I" } : Jvm.MethodName)) ∈ lw_all := lw_g (lw_at lw_m4 152 rfl) rfl
theorem w1006 : (Jvm.Cond.code ({ cls := "QuotaPeers", name := "goesOn", desc := "(LQuotaPeers$Peer;LQuotaPeers$Message;)I" } : Jvm.MethodName) prog_1_method_65_code (4 : Nat) (Option.some Jvm.ClassFile.FieldType.int)) ∈ lw_all := lw_g (lw_at lw_m4 153 rfl) rfl
theorem w1007 : (Jvm.Cond.methodLink "QuotaPeers" (616 : Nat) ({ cls := "QuotaPeers", name := "used", desc := "(LQuotaPeers$Message;)J" } : Jvm.MethodName)) ∈ lw_all := lw_g (lw_at lw_m4 154 rfl) rfl
theorem w1008 : (Jvm.Cond.static ({ cls := "QuotaPeers", name := "used", desc := "(LQuotaPeers$Message;)J" } : Jvm.MethodName)) ∈ lw_all := lw_g (lw_at lw_m4 155 rfl) rfl
theorem w1009 : (Jvm.Cond.code ({ cls := "QuotaPeers", name := "used", desc := "(LQuotaPeers$Message;)J" } : Jvm.MethodName) prog_1_method_64_code (1 : Nat) (Option.some Jvm.ClassFile.FieldType.long)) ∈ lw_all := lw_g (lw_at lw_m4 156 rfl) rfl
theorem w1010 : (Jvm.Cond.methodLink "QuotaPeers" (620 : Nat) ({ cls := "QuotaPeers$Session", name := "settle", desc := "(J)V" } : Jvm.MethodName)) ∈ lw_all := lw_g (lw_at lw_m4 157 rfl) rfl
theorem w1011 : (Jvm.Cond.instanceMethod ({ cls := "QuotaPeers$Session", name := "settle", desc := "(J)V" } : Jvm.MethodName)) ∈ lw_all := lw_g (lw_at lw_m4 158 rfl) rfl
theorem w1012 : (Jvm.Cond.selects "QuotaPeers$Session" ({ cls := "QuotaPeers$Session", name := "settle", desc := "(J)V" } : Jvm.MethodName) ({ cls := "QuotaPeers$Session", name := "settle", desc := "(J)V" } : Jvm.MethodName)) ∈ lw_all := lw_g (lw_at lw_m4 159 rfl) rfl
theorem w1013 : (Jvm.Cond.code ({ cls := "QuotaPeers$Session", name := "settle", desc := "(J)V" } : Jvm.MethodName) prog_10_method_2_code (3 : Nat) (Option.none : Option Jvm.ClassFile.FieldType)) ∈ lw_all := lw_g (lw_at lw_m4 160 rfl) rfl
theorem w1014 : (Jvm.Cond.methodLink "QuotaPeers$Session" (36 : Nat) ({ cls := "QuotaPeers$Account", name := "charge", desc := "(J)V" } : Jvm.MethodName)) ∈ lw_all := lw_g (lw_at lw_m4 161 rfl) rfl
theorem w1015 : (Jvm.Cond.instanceMethod ({ cls := "QuotaPeers$Account", name := "charge", desc := "(J)V" } : Jvm.MethodName)) ∈ lw_all := lw_g (lw_at lw_m4 162 rfl) rfl
theorem w1016 : (Jvm.Cond.selects "QuotaPeers$Account" ({ cls := "QuotaPeers$Account", name := "charge", desc := "(J)V" } : Jvm.MethodName) ({ cls := "QuotaPeers$Account", name := "charge", desc := "(J)V" } : Jvm.MethodName)) ∈ lw_all := lw_g (lw_at lw_m4 163 rfl) rfl
theorem w1017 : (Jvm.Cond.code ({ cls := "QuotaPeers$Account", name := "charge", desc := "(J)V" } : Jvm.MethodName) prog_2_method_3_code (3 : Nat) (Option.none : Option Jvm.ClassFile.FieldType)) ∈ lw_all := lw_g (lw_at lw_m4 164 rfl) rfl
theorem w1018 : (Jvm.Cond.methodLink "QuotaPeers" (571 : Nat) ({ cls := "QuotaPeers", name := "ends", desc := "(LQuotaPeers$Message;)I" } : Jvm.MethodName)) ∈ lw_all := lw_g (lw_at lw_m4 165 rfl) rfl
theorem w1020 : (Jvm.Cond.instanceMethod ({ cls := "QuotaPeers", name := "ends", desc := "(LQuotaPeers$Message;)I" } : Jvm.MethodName)) ∈ lw_all := lw_g (lw_at lw_m4 167 rfl) rfl
theorem w1021 : (Jvm.Cond.code ({ cls := "QuotaPeers", name := "ends", desc := "(LQuotaPeers$Message;)I" } : Jvm.MethodName) prog_1_method_67_code (3 : Nat) (Option.some Jvm.ClassFile.FieldType.int)) ∈ lw_all := lw_g (lw_at lw_m4 168 rfl) rfl
theorem w1022 : (Jvm.Cond.methodLink "QuotaPeers" (623 : Nat) ({ cls := "QuotaPeers", name := "remove", desc := "(LQuotaPeers$Session;)V" } : Jvm.MethodName)) ∈ lw_all := lw_g (lw_at lw_m4 169 rfl) rfl
theorem w1024 : (Jvm.Cond.instanceMethod ({ cls := "QuotaPeers", name := "remove", desc := "(LQuotaPeers$Session;)V" } : Jvm.MethodName)) ∈ lw_all := lw_g (lw_at lw_m4 171 rfl) rfl
theorem w1025 : (Jvm.Cond.code ({ cls := "QuotaPeers", name := "remove", desc := "(LQuotaPeers$Session;)V" } : Jvm.MethodName) prog_1_method_66_code (3 : Nat) (Option.none : Option Jvm.ClassFile.FieldType)) ∈ lw_all := lw_g (lw_at lw_m4 172 rfl) rfl
theorem w1026 : (Jvm.Cond.methodLink "QuotaPeers" (575 : Nat) ({ cls := "QuotaPeers", name := "event", desc := "(LQuotaPeers$Message;I)I" } : Jvm.MethodName)) ∈ lw_all := lw_g (lw_at lw_m4 173 rfl) rfl
theorem w1028 : (Jvm.Cond.instanceMethod ({ cls := "QuotaPeers", name := "event", desc := "(LQuotaPeers$Message;I)I" } : Jvm.MethodName)) ∈ lw_all := lw_g (lw_at lw_m4 175 rfl) rfl
theorem w1029 : (Jvm.Cond.code ({ cls := "QuotaPeers", name := "event", desc := "(LQuotaPeers$Message;I)I" } : Jvm.MethodName) prog_1_method_68_code (6 : Nat) (Option.some Jvm.ClassFile.FieldType.int)) ∈ lw_all := lw_g (lw_at lw_m4 176 rfl) rfl
theorem w1030 : (Jvm.Cond.methodLink "QuotaPeers" (630 : Nat) ({ cls := "QuotaPeers$Account", name := "charge", desc := "(J)V" } : Jvm.MethodName)) ∈ lw_all := lw_g (lw_at lw_m4 177 rfl) rfl
theorem w1031 : (Jvm.Cond.methodLink "QuotaPeers" (523 : Nat) ({ cls := "QuotaPeers$Page", name := "units", desc := "(IJ)V" } : Jvm.MethodName)) ∈ lw_all := lw_g (lw_at lw_m4 178 rfl) rfl
theorem w1032 : (Jvm.Cond.instanceMethod ({ cls := "QuotaPeers$Page", name := "units", desc := "(IJ)V" } : Jvm.MethodName)) ∈ lw_all := lw_g (lw_at lw_m4 179 rfl) rfl
theorem w1033 : (Jvm.Cond.selects "QuotaPeers$Page" ({ cls := "QuotaPeers$Page", name := "units", desc := "(IJ)V" } : Jvm.MethodName) ({ cls := "QuotaPeers$Page", name := "units", desc := "(IJ)V" } : Jvm.MethodName)) ∈ lw_all := lw_g (lw_at lw_m4 180 rfl) rfl
theorem w1034 : (Jvm.Cond.code ({ cls := "QuotaPeers$Page", name := "units", desc := "(IJ)V" } : Jvm.MethodName) prog_7_method_12_code (4 : Nat) (Option.none : Option Jvm.ClassFile.FieldType)) ∈ lw_all := lw_g (lw_at lw_m4 181 rfl) rfl
theorem w1035 : (Jvm.Cond.constantLong "QuotaPeers" (526 : Nat) (600 : Int64)) ∈ lw_all := lw_g (lw_at lw_m4 182 rfl) rfl
theorem w1036 : (Jvm.Cond.methodLink "QuotaPeers" (528 : Nat) ({ cls := "QuotaPeers", name := "keep", desc := "(LQuotaPeers$Message;)V" } : Jvm.MethodName)) ∈ lw_all := lw_g (lw_at lw_m4 183 rfl) rfl
theorem w1038 : (Jvm.Cond.instanceMethod ({ cls := "QuotaPeers", name := "keep", desc := "(LQuotaPeers$Message;)V" } : Jvm.MethodName)) ∈ lw_all := lw_g (lw_at lw_m4 185 rfl) rfl
theorem w1039 : (Jvm.Cond.code ({ cls := "QuotaPeers", name := "keep", desc := "(LQuotaPeers$Message;)V" } : Jvm.MethodName) prog_1_method_53_code (3 : Nat) (Option.none : Option Jvm.ClassFile.FieldType)) ∈ lw_all := lw_g (lw_at lw_m4 186 rfl) rfl
theorem w1040 : (Jvm.Cond.methodLink "QuotaPeersLaw" (104 : Nat) ({ cls := "QuotaPeers", name := "ask", desc := "(I)I" } : Jvm.MethodName)) ∈ lw_all := lw_g (lw_at lw_m4 187 rfl) rfl
theorem w1041 : (Jvm.Cond.instanceMethod ({ cls := "QuotaPeers", name := "ask", desc := "(I)I" } : Jvm.MethodName)) ∈ lw_all := lw_g (lw_at lw_m4 188 rfl) rfl
theorem w1042 : (Jvm.Cond.selects "QuotaPeers" ({ cls := "QuotaPeers", name := "ask", desc := "(I)I" } : Jvm.MethodName) ({ cls := "QuotaPeers", name := "ask", desc := "(I)I" } : Jvm.MethodName)) ∈ lw_all := lw_g (lw_at lw_m4 189 rfl) rfl
theorem w1043 : (Jvm.Cond.code ({ cls := "QuotaPeers", name := "ask", desc := "(I)I" } : Jvm.MethodName) prog_1_method_47_code (5 : Nat) (Option.some Jvm.ClassFile.FieldType.int)) ∈ lw_all := lw_g (lw_at lw_m4 190 rfl) rfl
theorem w1044 : (Jvm.Cond.methodLink "QuotaPeersLaw" (57 : Nat) ({ cls := "QuotaPeers", name := "tick", desc := "(I)I" } : Jvm.MethodName)) ∈ lw_all := lw_g (lw_at lw_m4 191 rfl) rfl
theorem w1045 : (Jvm.Cond.instanceMethod ({ cls := "QuotaPeers", name := "tick", desc := "(I)I" } : Jvm.MethodName)) ∈ lw_all := lw_g (lw_at lw_m4 192 rfl) rfl
theorem w1046 : (Jvm.Cond.selects "QuotaPeers" ({ cls := "QuotaPeers", name := "tick", desc := "(I)I" } : Jvm.MethodName) ({ cls := "QuotaPeers", name := "tick", desc := "(I)I" } : Jvm.MethodName)) ∈ lw_all := lw_g (lw_at lw_m4 193 rfl) rfl
theorem w1047 : (Jvm.Cond.code ({ cls := "QuotaPeers", name := "tick", desc := "(I)I" } : Jvm.MethodName) prog_1_method_71_code (3 : Nat) (Option.some Jvm.ClassFile.FieldType.int)) ∈ lw_all := lw_g (lw_at lw_m4 194 rfl) rfl
theorem w1048 : (Jvm.Cond.methodLink "QuotaPeers" (639 : Nat) ({ cls := "QuotaPeers", name := "peersAt", desc := "()I" } : Jvm.MethodName)) ∈ lw_all := lw_g (lw_at lw_m4 195 rfl) rfl
theorem w1050 : (Jvm.Cond.instanceMethod ({ cls := "QuotaPeers", name := "peersAt", desc := "()I" } : Jvm.MethodName)) ∈ lw_all := lw_g (lw_at lw_m4 197 rfl) rfl
theorem w1051 : (Jvm.Cond.code ({ cls := "QuotaPeers", name := "peersAt", desc := "()I" } : Jvm.MethodName) prog_1_method_69_code (4 : Nat) (Option.some Jvm.ClassFile.FieldType.int)) ∈ lw_all := lw_g (lw_at lw_m4 198 rfl) rfl
theorem w1052 : (Jvm.Cond.methodLink "QuotaPeers" (633 : Nat) ({ cls := "QuotaPeers$Peer", name := "isGivenTime", desc := "()Z" } : Jvm.MethodName)) ∈ lw_all := lw_g (lw_at lw_m4 199 rfl) rfl
theorem w1053 : (Jvm.Cond.instanceMethod ({ cls := "QuotaPeers$Peer", name := "isGivenTime", desc := "()Z" } : Jvm.MethodName)) ∈ lw_all := lw_g (lw_at lw_m4 200 rfl) rfl
theorem w1054 : (Jvm.Cond.selects "QuotaPeers$Peer" ({ cls := "QuotaPeers$Peer", name := "isGivenTime", desc := "()Z" } : Jvm.MethodName) ({ cls := "QuotaPeers$Peer", name := "isGivenTime", desc := "()Z" } : Jvm.MethodName)) ∈ lw_all := lw_g (lw_at lw_m4 201 rfl) rfl
theorem w1055 : (Jvm.Cond.code ({ cls := "QuotaPeers$Peer", name := "isGivenTime", desc := "()Z" } : Jvm.MethodName) prog_8_method_5_code (1 : Nat) (Option.some Jvm.ClassFile.FieldType.boolean)) ∈ lw_all := lw_g (lw_at lw_m4 202 rfl) rfl
theorem w1056 : (Jvm.Cond.methodLink "QuotaPeers" (636 : Nat) ({ cls := "QuotaPeers", name := "timer", desc := "(LQuotaPeers$Peer;)V" } : Jvm.MethodName)) ∈ lw_all := lw_g (lw_at lw_m4 203 rfl) rfl
theorem w1058 : (Jvm.Cond.instanceMethod ({ cls := "QuotaPeers", name := "timer", desc := "(LQuotaPeers$Peer;)V" } : Jvm.MethodName)) ∈ lw_all := lw_g (lw_at lw_m4 205 rfl) rfl
theorem w1059 : (Jvm.Cond.code ({ cls := "QuotaPeers", name := "timer", desc := "(LQuotaPeers$Peer;)V" } : Jvm.MethodName) prog_1_method_43_code (3 : Nat) (Option.none : Option Jvm.ClassFile.FieldType)) ∈ lw_all := lw_g (lw_at lw_m4 206 rfl) rfl
theorem w1060 : (Jvm.Cond.methodLink "QuotaPeers" (643 : Nat) ({ cls := "QuotaPeers", name := "sessionsAt", desc := "()I" } : Jvm.MethodName)) ∈ lw_all := lw_g (lw_at lw_m4 207 rfl) rfl
theorem w1062 : (Jvm.Cond.instanceMethod ({ cls := "QuotaPeers", name := "sessionsAt", desc := "()I" } : Jvm.MethodName)) ∈ lw_all := lw_g (lw_at lw_m4 209 rfl) rfl
theorem w1063 : (Jvm.Cond.code ({ cls := "QuotaPeers", name := "sessionsAt", desc := "()I" } : Jvm.MethodName) prog_1_method_70_code (4 : Nat) (Option.some Jvm.ClassFile.FieldType.int)) ∈ lw_all := lw_g (lw_at lw_m4 210 rfl) rfl
theorem w1064 : (Jvm.Cond.methodLink "QuotaPeersLaw" (61 : Nat) ({ cls := "QuotaPeers", name := "clock", desc := "()I" } : Jvm.MethodName)) ∈ lw_all := lw_g (lw_at lw_m4 211 rfl) rfl
theorem w1065 : (Jvm.Cond.instanceMethod ({ cls := "QuotaPeers", name := "clock", desc := "()I" } : Jvm.MethodName)) ∈ lw_all := lw_g (lw_at lw_m4 212 rfl) rfl
theorem w1066 : (Jvm.Cond.selects "QuotaPeers" ({ cls := "QuotaPeers", name := "clock", desc := "()I" } : Jvm.MethodName) ({ cls := "QuotaPeers", name := "clock", desc := "()I" } : Jvm.MethodName)) ∈ lw_all := lw_g (lw_at lw_m4 213 rfl) rfl
theorem w1067 : (Jvm.Cond.code ({ cls := "QuotaPeers", name := "clock", desc := "()I" } : Jvm.MethodName) prog_1_method_72_code (1 : Nat) (Option.some Jvm.ClassFile.FieldType.int)) ∈ lw_all := lw_g (lw_at lw_m4 214 rfl) rfl
theorem w1068 : (Jvm.Cond.methodLink "QuotaPeersLaw" (65 : Nat) ({ cls := "QuotaPeers", name := "take", desc := "(I)I" } : Jvm.MethodName)) ∈ lw_all := lw_g (lw_at lw_m4 215 rfl) rfl
theorem w1069 : (Jvm.Cond.instanceMethod ({ cls := "QuotaPeers", name := "take", desc := "(I)I" } : Jvm.MethodName)) ∈ lw_all := lw_g (lw_at lw_m4 216 rfl) rfl
theorem w1070 : (Jvm.Cond.selects "QuotaPeers" ({ cls := "QuotaPeers", name := "take", desc := "(I)I" } : Jvm.MethodName) ({ cls := "QuotaPeers", name := "take", desc := "(I)I" } : Jvm.MethodName)) ∈ lw_all := lw_g (lw_at lw_m4 217 rfl) rfl
theorem w1071 : (Jvm.Cond.code ({ cls := "QuotaPeers", name := "take", desc := "(I)I" } : Jvm.MethodName) prog_1_method_73_code (3 : Nat) (Option.some Jvm.ClassFile.FieldType.int)) ∈ lw_all := lw_g (lw_at lw_m4 218 rfl) rfl
theorem w1072 : (Jvm.Cond.methodLink "QuotaPeers" (649 : Nat) ({ cls := "QuotaPeers$Link", name := "take", desc := "()I" } : Jvm.MethodName)) ∈ lw_all := lw_g (lw_at lw_m4 219 rfl) rfl
theorem w1073 : (Jvm.Cond.instanceMethod ({ cls := "QuotaPeers$Link", name := "take", desc := "()I" } : Jvm.MethodName)) ∈ lw_all := lw_g (lw_at lw_m4 220 rfl) rfl
theorem w1074 : (Jvm.Cond.selects "QuotaPeers$Link" ({ cls := "QuotaPeers$Link", name := "take", desc := "()I" } : Jvm.MethodName) ({ cls := "QuotaPeers$Link", name := "take", desc := "()I" } : Jvm.MethodName)) ∈ lw_all := lw_g (lw_at lw_m4 221 rfl) rfl
theorem w1075 : (Jvm.Cond.code ({ cls := "QuotaPeers$Link", name := "take", desc := "()I" } : Jvm.MethodName) prog_5_method_6_code (2 : Nat) (Option.some Jvm.ClassFile.FieldType.int)) ∈ lw_all := lw_g (lw_at lw_m4 222 rfl) rfl
theorem w1076 : (Jvm.Cond.methodLink "QuotaPeersLaw" (69 : Nat) ({ cls := "QuotaPeers", name := "waiting", desc := "(I)I" } : Jvm.MethodName)) ∈ lw_all := lw_g (lw_at lw_m4 223 rfl) rfl
theorem w1077 : (Jvm.Cond.instanceMethod ({ cls := "QuotaPeers", name := "waiting", desc := "(I)I" } : Jvm.MethodName)) ∈ lw_all := lw_g (lw_at lw_m4 224 rfl) rfl
theorem w1078 : (Jvm.Cond.selects "QuotaPeers" ({ cls := "QuotaPeers", name := "waiting", desc := "(I)I" } : Jvm.MethodName) ({ cls := "QuotaPeers", name := "waiting", desc := "(I)I" } : Jvm.MethodName)) ∈ lw_all := lw_g (lw_at lw_m4 225 rfl) rfl
theorem w1079 : (Jvm.Cond.code ({ cls := "QuotaPeers", name := "waiting", desc := "(I)I" } : Jvm.MethodName) prog_1_method_74_code (3 : Nat) (Option.some Jvm.ClassFile.FieldType.int)) ∈ lw_all := lw_g (lw_at lw_m4 226 rfl) rfl
theorem w1080 : (Jvm.Cond.methodLink "QuotaPeersLaw" (73 : Nat) ({ cls := "QuotaPeers", name := "connection", desc := "(II)I" } : Jvm.MethodName)) ∈ lw_all := lw_g (lw_at lw_m4 227 rfl) rfl
theorem w1081 : (Jvm.Cond.instanceMethod ({ cls := "QuotaPeers", name := "connection", desc := "(II)I" } : Jvm.MethodName)) ∈ lw_all := lw_g (lw_at lw_m4 228 rfl) rfl
theorem w1082 : (Jvm.Cond.selects "QuotaPeers" ({ cls := "QuotaPeers", name := "connection", desc := "(II)I" } : Jvm.MethodName) ({ cls := "QuotaPeers", name := "connection", desc := "(II)I" } : Jvm.MethodName)) ∈ lw_all := lw_g (lw_at lw_m4 229 rfl) rfl
theorem w1083 : (Jvm.Cond.code ({ cls := "QuotaPeers", name := "connection", desc := "(II)I" } : Jvm.MethodName) prog_1_method_75_code (4 : Nat) (Option.some Jvm.ClassFile.FieldType.int)) ∈ lw_all := lw_g (lw_at lw_m4 230 rfl) rfl
theorem w1084 : (Jvm.Cond.methodLink "QuotaPeersLaw" (77 : Nat) ({ cls := "QuotaPeers", name := "state", desc := "(II)I" } : Jvm.MethodName)) ∈ lw_all := lw_g (lw_at lw_m4 231 rfl) rfl
theorem w1085 : (Jvm.Cond.instanceMethod ({ cls := "QuotaPeers", name := "state", desc := "(II)I" } : Jvm.MethodName)) ∈ lw_all := lw_g (lw_at lw_m4 232 rfl) rfl
theorem w1086 : (Jvm.Cond.selects "QuotaPeers" ({ cls := "QuotaPeers", name := "state", desc := "(II)I" } : Jvm.MethodName) ({ cls := "QuotaPeers", name := "state", desc := "(II)I" } : Jvm.MethodName)) ∈ lw_all := lw_g (lw_at lw_m4 233 rfl) rfl
theorem w1087 : (Jvm.Cond.code ({ cls := "QuotaPeers", name := "state", desc := "(II)I" } : Jvm.MethodName) prog_1_method_76_code (4 : Nat) (Option.some Jvm.ClassFile.FieldType.int)) ∈ lw_all := lw_g (lw_at lw_m4 234 rfl) rfl
theorem w1088 : (Jvm.Cond.methodLink "QuotaPeersLaw" (81 : Nat) ({ cls := "QuotaPeers", name := "account", desc := "(JJ)I" } : Jvm.MethodName)) ∈ lw_all := lw_g (lw_at lw_m4 235 rfl) rfl
theorem w1089 : (Jvm.Cond.instanceMethod ({ cls := "QuotaPeers", name := "account", desc := "(JJ)I" } : Jvm.MethodName)) ∈ lw_all := lw_g (lw_at lw_m4 236 rfl) rfl
theorem w1090 : (Jvm.Cond.selects "QuotaPeers" ({ cls := "QuotaPeers", name := "account", desc := "(JJ)I" } : Jvm.MethodName) ({ cls := "QuotaPeers", name := "account", desc := "(JJ)I" } : Jvm.MethodName)) ∈ lw_all := lw_g (lw_at lw_m4 237 rfl) rfl
theorem w1091 : (Jvm.Cond.code ({ cls := "QuotaPeers", name := "account", desc := "(JJ)I" } : Jvm.MethodName) prog_1_method_77_code (5 : Nat) (Option.some Jvm.ClassFile.FieldType.int)) ∈ lw_all := lw_g (lw_at lw_m4 238 rfl) rfl
theorem w1092 : (Jvm.Cond.constantLong "QuotaPeers" (651 : Nat) (99999999999999999 : Int64)) ∈ lw_all := lw_g (lw_at lw_m4 239 rfl) rfl
theorem w1093 : (Jvm.Cond.instantiable "QuotaPeers$Account" (4 : Nat)) ∈ lw_all := lw_g (lw_at lw_m5 0 rfl) rfl
theorem w1094 : (Jvm.Cond.methodLink "QuotaPeers" (653 : Nat) ({ cls := "QuotaPeers$Account", name := "<init>", desc := "(JJ)V" } : Jvm.MethodName)) ∈ lw_all := lw_g (lw_at lw_m5 1 rfl) rfl
theorem w1095 : (Jvm.Cond.instanceMethod ({ cls := "QuotaPeers$Account", name := "<init>", desc := "(JJ)V" } : Jvm.MethodName)) ∈ lw_all := lw_g (lw_at lw_m5 2 rfl) rfl
theorem w1096 : (Jvm.Cond.code ({ cls := "QuotaPeers$Account", name := "<init>", desc := "(JJ)V" } : Jvm.MethodName) prog_2_method_1_code (5 : Nat) (Option.none : Option Jvm.ClassFile.FieldType)) ∈ lw_all := lw_g (lw_at lw_m5 3 rfl) rfl
theorem w1097 : (Jvm.Cond.methodLink "QuotaPeers$Account" (1 : Nat) ({ cls := "java/lang/Object", name := "<init>", desc := "()V" } : Jvm.MethodName)) ∈ lw_all := lw_g (lw_at lw_m5 4 rfl) rfl
theorem w1098 : (Jvm.Cond.fieldLink "QuotaPeers$Account" (7 : Nat) "QuotaPeers$Account" "number" "J") ∈ lw_all := lw_g (lw_at lw_m5 5 rfl) rfl
theorem w1099 : (Jvm.Cond.fieldLinkNest "QuotaPeers" (543 : Nat) "QuotaPeers$Account" "number" "J" "QuotaPeers") ∈ lw_tbl := lw_at lw_m5 6 rfl
theorem w1100 : (Jvm.Cond.fieldLink "QuotaPeers$Account" (13 : Nat) "QuotaPeers$Account" "balance" "J") ∈ lw_all := lw_g (lw_at lw_m5 7 rfl) rfl
theorem w1101 : (Jvm.Cond.fieldLinkNest "QuotaPeers" (627 : Nat) "QuotaPeers$Account" "balance" "J" "QuotaPeers") ∈ lw_tbl := lw_at lw_m5 8 rfl
theorem w1102 : (Jvm.Cond.fieldLink "QuotaPeers$Account" (16 : Nat) "QuotaPeers$Account" "reserved" "J") ∈ lw_all := lw_g (lw_at lw_m5 9 rfl) rfl
theorem w1103 : (Jvm.Cond.fieldLinkNest "QuotaPeers$Session" (42 : Nat) "QuotaPeers$Account" "reserved" "J" "QuotaPeers") ∈ lw_tbl := lw_at lw_m5 10 rfl
theorem w1104 : (Jvm.Cond.fieldLinkNest "QuotaPeers" (656 : Nat) "QuotaPeers$Account" "reserved" "J" "QuotaPeers") ∈ lw_tbl := lw_at lw_m5 11 rfl
theorem w1105 : (Jvm.Cond.fieldLink "QuotaPeers$Account" (19 : Nat) "QuotaPeers$Account" "charged" "J") ∈ lw_all := lw_g (lw_at lw_m5 12 rfl) rfl
theorem w1106 : (Jvm.Cond.fieldLinkNest "QuotaPeers" (659 : Nat) "QuotaPeers$Account" "charged" "J" "QuotaPeers") ∈ lw_tbl := lw_at lw_m5 13 rfl
theorem w1116 : (Jvm.Cond.methodLink "QuotaPeersLaw" (86 : Nat) ({ cls := "QuotaPeers", name := "balance", desc := "(JI)J" } : Jvm.MethodName)) ∈ lw_all := lw_g (lw_at lw_m5 23 rfl) rfl
theorem w1117 : (Jvm.Cond.instanceMethod ({ cls := "QuotaPeers", name := "balance", desc := "(JI)J" } : Jvm.MethodName)) ∈ lw_all := lw_g (lw_at lw_m5 24 rfl) rfl
theorem w1118 : (Jvm.Cond.selects "QuotaPeers" ({ cls := "QuotaPeers", name := "balance", desc := "(JI)J" } : Jvm.MethodName) ({ cls := "QuotaPeers", name := "balance", desc := "(JI)J" } : Jvm.MethodName)) ∈ lw_all := lw_g (lw_at lw_m5 25 rfl) rfl
theorem w1119 : (Jvm.Cond.code ({ cls := "QuotaPeers", name := "balance", desc := "(JI)J" } : Jvm.MethodName) prog_1_method_78_code (5 : Nat) (Option.some Jvm.ClassFile.FieldType.long)) ∈ lw_all := lw_g (lw_at lw_m5 26 rfl) rfl
theorem w1120 : (Jvm.Cond.constantLong "QuotaPeers" (662 : Nat) (-2 : Int64)) ∈ lw_all := lw_g (lw_at lw_m5 27 rfl) rfl
theorem w1121 : (Jvm.Cond.methodLink "QuotaPeersLaw" (91 : Nat) ({ cls := "QuotaPeers", name := "sessions", desc := "()I" } : Jvm.MethodName)) ∈ lw_all := lw_g (lw_at lw_m5 28 rfl) rfl
theorem w1122 : (Jvm.Cond.instanceMethod ({ cls := "QuotaPeers", name := "sessions", desc := "()I" } : Jvm.MethodName)) ∈ lw_all := lw_g (lw_at lw_m5 29 rfl) rfl
theorem w1123 : (Jvm.Cond.selects "QuotaPeers" ({ cls := "QuotaPeers", name := "sessions", desc := "()I" } : Jvm.MethodName) ({ cls := "QuotaPeers", name := "sessions", desc := "()I" } : Jvm.MethodName)) ∈ lw_all := lw_g (lw_at lw_m5 30 rfl) rfl
theorem w1124 : (Jvm.Cond.code ({ cls := "QuotaPeers", name := "sessions", desc := "()I" } : Jvm.MethodName) prog_1_method_79_code (1 : Nat) (Option.some Jvm.ClassFile.FieldType.int)) ∈ lw_all := lw_g (lw_at lw_m5 31 rfl) rfl
theorem w1125 : (Jvm.Cond.methodLink "QuotaPeersLaw" (95 : Nat) ({ cls := "QuotaPeers", name := "session", desc := "(II)I" } : Jvm.MethodName)) ∈ lw_all := lw_g (lw_at lw_m5 32 rfl) rfl
theorem w1126 : (Jvm.Cond.instanceMethod ({ cls := "QuotaPeers", name := "session", desc := "(II)I" } : Jvm.MethodName)) ∈ lw_all := lw_g (lw_at lw_m5 33 rfl) rfl
theorem w1127 : (Jvm.Cond.selects "QuotaPeers" ({ cls := "QuotaPeers", name := "session", desc := "(II)I" } : Jvm.MethodName) ({ cls := "QuotaPeers", name := "session", desc := "(II)I" } : Jvm.MethodName)) ∈ lw_all := lw_g (lw_at lw_m5 34 rfl) rfl
theorem w1128 : (Jvm.Cond.code ({ cls := "QuotaPeers", name := "session", desc := "(II)I" } : Jvm.MethodName) prog_1_method_80_code (4 : Nat) (Option.some Jvm.ClassFile.FieldType.int)) ∈ lw_all := lw_g (lw_at lw_m5 35 rfl) rfl
theorem w1129 : (Jvm.Cond.methodLink "QuotaPeersLaw" (99 : Nat) ({ cls := "QuotaPeers", name := "granted", desc := "(I)J" } : Jvm.MethodName)) ∈ lw_all := lw_g (lw_at lw_m5 36 rfl) rfl
theorem w1130 : (Jvm.Cond.instanceMethod ({ cls := "QuotaPeers", name := "granted", desc := "(I)J" } : Jvm.MethodName)) ∈ lw_all := lw_g (lw_at lw_m5 37 rfl) rfl
theorem w1131 : (Jvm.Cond.selects "QuotaPeers" ({ cls := "QuotaPeers", name := "granted", desc := "(I)J" } : Jvm.MethodName) ({ cls := "QuotaPeers", name := "granted", desc := "(I)J" } : Jvm.MethodName)) ∈ lw_all := lw_g (lw_at lw_m5 38 rfl) rfl
theorem w1132 : (Jvm.Cond.code ({ cls := "QuotaPeers", name := "granted", desc := "(I)J" } : Jvm.MethodName) prog_1_method_81_code (2 : Nat) (Option.some Jvm.ClassFile.FieldType.long)) ∈ lw_all := lw_g (lw_at lw_m5 39 rfl) rfl
theorem w1133 : (Jvm.Cond.methodLink "QuotaPeersLaw" (108 : Nat) ({ cls := "QuotaPeers", name := "asked", desc := "(II)I" } : Jvm.MethodName)) ∈ lw_all := lw_g (lw_at lw_m5 40 rfl) rfl
theorem w1134 : (Jvm.Cond.instanceMethod ({ cls := "QuotaPeers", name := "asked", desc := "(II)I" } : Jvm.MethodName)) ∈ lw_all := lw_g (lw_at lw_m5 41 rfl) rfl
theorem w1135 : (Jvm.Cond.selects "QuotaPeers" ({ cls := "QuotaPeers", name := "asked", desc := "(II)I" } : Jvm.MethodName) ({ cls := "QuotaPeers", name := "asked", desc := "(II)I" } : Jvm.MethodName)) ∈ lw_all := lw_g (lw_at lw_m5 42 rfl) rfl
theorem w1136 : (Jvm.Cond.code ({ cls := "QuotaPeers", name := "asked", desc := "(II)I" } : Jvm.MethodName) prog_1_method_82_code (4 : Nat) (Option.some Jvm.ClassFile.FieldType.int)) ∈ lw_all := lw_g (lw_at lw_m5 43 rfl) rfl
theorem w1137 : (Jvm.Cond.methodLink "QuotaPeersLaw" (112 : Nat) ({ cls := "QuotaPeers", name := "kept", desc := "()I" } : Jvm.MethodName)) ∈ lw_all := lw_g (lw_at lw_m5 44 rfl) rfl
theorem w1138 : (Jvm.Cond.instanceMethod ({ cls := "QuotaPeers", name := "kept", desc := "()I" } : Jvm.MethodName)) ∈ lw_all := lw_g (lw_at lw_m5 45 rfl) rfl
theorem w1139 : (Jvm.Cond.selects "QuotaPeers" ({ cls := "QuotaPeers", name := "kept", desc := "()I" } : Jvm.MethodName) ({ cls := "QuotaPeers", name := "kept", desc := "()I" } : Jvm.MethodName)) ∈ lw_all := lw_g (lw_at lw_m5 46 rfl) rfl
theorem w1140 : (Jvm.Cond.code ({ cls := "QuotaPeers", name := "kept", desc := "()I" } : Jvm.MethodName) prog_1_method_83_code (1 : Nat) (Option.some Jvm.ClassFile.FieldType.int)) ∈ lw_all := lw_g (lw_at lw_m5 47 rfl) rfl
theorem w1141 : (Jvm.Cond.methodLink "QuotaPeersLaw" (116 : Nat) ({ cls := "QuotaPeers", name := "lost", desc := "()I" } : Jvm.MethodName)) ∈ lw_all := lw_g (lw_at lw_m5 48 rfl) rfl
theorem w1142 : (Jvm.Cond.instanceMethod ({ cls := "QuotaPeers", name := "lost", desc := "()I" } : Jvm.MethodName)) ∈ lw_all := lw_g (lw_at lw_m5 49 rfl) rfl
theorem w1143 : (Jvm.Cond.selects "QuotaPeers" ({ cls := "QuotaPeers", name := "lost", desc := "()I" } : Jvm.MethodName) ({ cls := "QuotaPeers", name := "lost", desc := "()I" } : Jvm.MethodName)) ∈ lw_all := lw_g (lw_at lw_m5 50 rfl) rfl
theorem w1144 : (Jvm.Cond.code ({ cls := "QuotaPeers", name := "lost", desc := "()I" } : Jvm.MethodName) prog_1_method_84_code (1 : Nat) (Option.some Jvm.ClassFile.FieldType.int)) ∈ lw_all := lw_g (lw_at lw_m5 51 rfl) rfl
theorem w1145 : (Jvm.Cond.classLink "QuotaPeersLaw" (10 : Nat) "QuotaPeersModel") ∈ lw_all := lw_g (lw_at lw_m5 52 rfl) rfl
theorem w1146 : (Jvm.Cond.instantiable "QuotaPeersModel" (92 : Nat)) ∈ lw_all := lw_g (lw_at lw_m5 53 rfl) rfl
theorem w1147 : (Jvm.Cond.methodLink "QuotaPeersLaw" (12 : Nat) ({ cls := "QuotaPeersModel", name := "<init>", desc := "()V" } : Jvm.MethodName)) ∈ lw_all := lw_g (lw_at lw_m5 54 rfl) rfl
theorem w1148 : (Jvm.Cond.instanceMethod ({ cls := "QuotaPeersModel", name := "<init>", desc := "()V" } : Jvm.MethodName)) ∈ lw_all := lw_g (lw_at lw_m5 55 rfl) rfl
theorem w1149 : (Jvm.Cond.code ({ cls := "QuotaPeersModel", name := "<init>", desc := "()V" } : Jvm.MethodName) prog_13_method_1_code (1 : Nat) (Option.none : Option Jvm.ClassFile.FieldType)) ∈ lw_all := lw_g (lw_at lw_m5 56 rfl) rfl
theorem w1150 : (Jvm.Cond.methodLink "QuotaPeersModel" (1 : Nat) ({ cls := "java/lang/Object", name := "<init>", desc := "()V" } : Jvm.MethodName)) ∈ lw_all := lw_g (lw_at lw_m5 57 rfl) rfl
theorem w1151 : (Jvm.Cond.fieldLink "QuotaPeersModel" (206 : Nat) "QuotaPeersModel" "code" "I") ∈ lw_all := lw_g (lw_at lw_m5 58 rfl) rfl
theorem w1152 : (Jvm.Cond.fieldLink "QuotaPeersModel" (219 : Nat) "QuotaPeersModel" "now" "I") ∈ lw_all := lw_g (lw_at lw_m5 59 rfl) rfl
theorem w1153 : (Jvm.Cond.fieldLink "QuotaPeersModel" (245 : Nat) "QuotaPeersModel" "lost" "I") ∈ lw_all := lw_g (lw_at lw_m5 60 rfl) rfl
theorem w1154 : (Jvm.Cond.fieldLink "QuotaPeersModel" (7 : Nat) "QuotaPeersModel" "sign" "[B") ∈ lw_all := lw_g (lw_at lw_m5 61 rfl) rfl
theorem w1155 : (Jvm.Cond.fieldLink "QuotaPeersModel" (209 : Nat) "QuotaPeersModel" "signs" "I") ∈ lw_all := lw_g (lw_at lw_m5 62 rfl) rfl
theorem w1156 : (Jvm.Cond.fieldLink "QuotaPeersModel" (13 : Nat) "QuotaPeersModel" "host" "[B") ∈ lw_all := lw_g (lw_at lw_m5 63 rfl) rfl
theorem w1157 : (Jvm.Cond.fieldLink "QuotaPeersModel" (203 : Nat) "QuotaPeersModel" "hostSize" "I") ∈ lw_all := lw_g (lw_at lw_m5 64 rfl) rfl
theorem w1158 : (Jvm.Cond.fieldLink "QuotaPeersModel" (216 : Nat) "QuotaPeersModel" "peers" "I") ∈ lw_all := lw_g (lw_at lw_m5 65 rfl) rfl
theorem w1159 : (Jvm.Cond.fieldLink "QuotaPeersModel" (16 : Nat) "QuotaPeersModel" "peerName" "[B") ∈ lw_all := lw_g (lw_at lw_m5 66 rfl) rfl
theorem w1160 : (Jvm.Cond.fieldLink "QuotaPeersModel" (19 : Nat) "QuotaPeersModel" "peerSize" "[I") ∈ lw_all := lw_g (lw_at lw_m5 67 rfl) rfl
theorem w1161 : (Jvm.Cond.fieldLink "QuotaPeersModel" (23 : Nat) "QuotaPeersModel" "starts" "[Z") ∈ lw_all := lw_g (lw_at lw_m5 68 rfl) rfl
theorem w1162 : (Jvm.Cond.fieldLink "QuotaPeersModel" (27 : Nat) "QuotaPeersModel" "state" "[I") ∈ lw_all := lw_g (lw_at lw_m5 69 rfl) rfl
theorem w1163 : (Jvm.Cond.fieldLink "QuotaPeersModel" (30 : Nat) "QuotaPeersModel" "deadline" "[I") ∈ lw_all := lw_g (lw_at lw_m5 70 rfl) rfl
theorem w1164 : (Jvm.Cond.fieldLink "QuotaPeersModel" (33 : Nat) "QuotaPeersModel" "own" "[I") ∈ lw_all := lw_g (lw_at lw_m5 71 rfl) rfl
theorem w1165 : (Jvm.Cond.fieldLink "QuotaPeersModel" (36 : Nat) "QuotaPeersModel" "came" "[I") ∈ lw_all := lw_g (lw_at lw_m5 72 rfl) rfl
theorem w1166 : (Jvm.Cond.fieldLink "QuotaPeersModel" (39 : Nat) "QuotaPeersModel" "status" "[I") ∈ lw_all := lw_g (lw_at lw_m5 73 rfl) rfl
theorem w1167 : (Jvm.Cond.fieldLink "QuotaPeersModel" (42 : Nat) "QuotaPeersModel" "awaited" "[Z") ∈ lw_all := lw_g (lw_at lw_m5 74 rfl) rfl
theorem w1168 : (Jvm.Cond.fieldLink "QuotaPeersModel" (45 : Nat) "QuotaPeersModel" "timer" "[I") ∈ lw_all := lw_g (lw_at lw_m5 75 rfl) rfl
theorem w1169 : (Jvm.Cond.fieldLink "QuotaPeersModel" (48 : Nat) "QuotaPeersModel" "given" "[I") ∈ lw_all := lw_g (lw_at lw_m5 76 rfl) rfl
theorem w1170 : (Jvm.Cond.fieldLink "QuotaPeersModel" (51 : Nat) "QuotaPeersModel" "back" "[I") ∈ lw_all := lw_g (lw_at lw_m5 77 rfl) rfl
theorem w1171 : (Jvm.Cond.fieldLink "QuotaPeersModel" (54 : Nat) "QuotaPeersModel" "openHop" "[I") ∈ lw_all := lw_g (lw_at lw_m5 78 rfl) rfl
theorem w1172 : (Jvm.Cond.fieldLink "QuotaPeersModel" (57 : Nat) "QuotaPeersModel" "watchHop" "[I") ∈ lw_all := lw_g (lw_at lw_m5 79 rfl) rfl
theorem w1173 : (Jvm.Cond.fieldLink "QuotaPeersModel" (60 : Nat) "QuotaPeersModel" "endHop" "[I") ∈ lw_all := lw_g (lw_at lw_m5 80 rfl) rfl
theorem w1174 : (Jvm.Cond.fieldLink "QuotaPeersModel" (63 : Nat) "QuotaPeersModel" "cameFlags" "[I") ∈ lw_all := lw_g (lw_at lw_m5 81 rfl) rfl
theorem w1175 : (Jvm.Cond.fieldLink "QuotaPeersModel" (66 : Nat) "QuotaPeersModel" "cameHop" "[I") ∈ lw_all := lw_g (lw_at lw_m5 82 rfl) rfl
theorem w1176 : (Jvm.Cond.fieldLink "QuotaPeersModel" (69 : Nat) "QuotaPeersModel" "cameEnd" "[I") ∈ lw_all := lw_g (lw_at lw_m5 83 rfl) rfl
theorem w1177 : (Jvm.Cond.fieldLink "QuotaPeersModel" (72 : Nat) "QuotaPeersModel" "cState" "[I") ∈ lw_all := lw_g (lw_at lw_m5 84 rfl) rfl
theorem w1178 : (Jvm.Cond.fieldLink "QuotaPeersModel" (75 : Nat) "QuotaPeersModel" "cPeer" "[I") ∈ lw_all := lw_g (lw_at lw_m5 85 rfl) rfl
theorem w1179 : (Jvm.Cond.fieldLink "QuotaPeersModel" (78 : Nat) "QuotaPeersModel" "cRole" "[I") ∈ lw_all := lw_g (lw_at lw_m5 86 rfl) rfl
theorem w1180 : (Jvm.Cond.fieldLink "QuotaPeersModel" (81 : Nat) "QuotaPeersModel" "in" "[B") ∈ lw_all := lw_g (lw_at lw_m5 87 rfl) rfl
theorem w1181 : (Jvm.Cond.fieldLink "QuotaPeersModel" (84 : Nat) "QuotaPeersModel" "inSize" "[I") ∈ lw_all := lw_g (lw_at lw_m5 88 rfl) rfl
theorem w1182 : (Jvm.Cond.fieldLink "QuotaPeersModel" (87 : Nat) "QuotaPeersModel" "out" "[B") ∈ lw_all := lw_g (lw_at lw_m5 89 rfl) rfl
theorem w1183 : (Jvm.Cond.fieldLink "QuotaPeersModel" (90 : Nat) "QuotaPeersModel" "outSize" "[I") ∈ lw_all := lw_g (lw_at lw_m5 90 rfl) rfl
theorem w1184 : (Jvm.Cond.fieldLink "QuotaPeersModel" (93 : Nat) "QuotaPeersModel" "outFrom" "[I") ∈ lw_all := lw_g (lw_at lw_m5 91 rfl) rfl
theorem w1185 : (Jvm.Cond.fieldLink "QuotaPeersModel" (96 : Nat) "QuotaPeersModel" "hop" "I") ∈ lw_all := lw_g (lw_at lw_m5 92 rfl) rfl
theorem w1186 : (Jvm.Cond.fieldLink "QuotaPeersModel" (393 : Nat) "QuotaPeersModel" "accounts" "I") ∈ lw_all := lw_g (lw_at lw_m5 93 rfl) rfl
theorem w1187 : (Jvm.Cond.fieldLink "QuotaPeersModel" (100 : Nat) "QuotaPeersModel" "number" "[J") ∈ lw_all := lw_g (lw_at lw_m5 94 rfl) rfl
theorem w1188 : (Jvm.Cond.fieldLink "QuotaPeersModel" (104 : Nat) "QuotaPeersModel" "balance" "[J") ∈ lw_all := lw_g (lw_at lw_m5 95 rfl) rfl
theorem w1189 : (Jvm.Cond.fieldLink "QuotaPeersModel" (107 : Nat) "QuotaPeersModel" "reserved" "[J") ∈ lw_all := lw_g (lw_at lw_m5 96 rfl) rfl
theorem w1190 : (Jvm.Cond.fieldLink "QuotaPeersModel" (110 : Nat) "QuotaPeersModel" "charged" "[J") ∈ lw_all := lw_g (lw_at lw_m5 97 rfl) rfl
theorem w1191 : (Jvm.Cond.fieldLink "QuotaPeersModel" (405 : Nat) "QuotaPeersModel" "many" "I") ∈ lw_all := lw_g (lw_at lw_m5 98 rfl) rfl
theorem w1192 : (Jvm.Cond.fieldLink "QuotaPeersModel" (113 : Nat) "QuotaPeersModel" "sName" "[B") ∈ lw_all := lw_g (lw_at lw_m5 99 rfl) rfl
theorem w1193 : (Jvm.Cond.fieldLink "QuotaPeersModel" (116 : Nat) "QuotaPeersModel" "sHost" "[B") ∈ lw_all := lw_g (lw_at lw_m5 100 rfl) rfl
theorem w1194 : (Jvm.Cond.fieldLink "QuotaPeersModel" (119 : Nat) "QuotaPeersModel" "sRealm" "[B") ∈ lw_all := lw_g (lw_at lw_m5 101 rfl) rfl
theorem w1195 : (Jvm.Cond.fieldLink "QuotaPeersModel" (122 : Nat) "QuotaPeersModel" "sAccount" "[I") ∈ lw_all := lw_g (lw_at lw_m5 102 rfl) rfl
theorem w1196 : (Jvm.Cond.fieldLink "QuotaPeersModel" (125 : Nat) "QuotaPeersModel" "sGrant" "[J") ∈ lw_all := lw_g (lw_at lw_m5 103 rfl) rfl
theorem w1197 : (Jvm.Cond.fieldLink "QuotaPeersModel" (128 : Nat) "QuotaPeersModel" "sCount" "[J") ∈ lw_all := lw_g (lw_at lw_m5 104 rfl) rfl
theorem w1198 : (Jvm.Cond.fieldLink "QuotaPeersModel" (131 : Nat) "QuotaPeersModel" "sPeer" "[I") ∈ lw_all := lw_g (lw_at lw_m5 105 rfl) rfl
theorem w1199 : (Jvm.Cond.fieldLink "QuotaPeersModel" (134 : Nat) "QuotaPeersModel" "sEnd" "[I") ∈ lw_all := lw_g (lw_at lw_m5 106 rfl) rfl
theorem w1200 : (Jvm.Cond.fieldLink "QuotaPeersModel" (382 : Nat) "QuotaPeersModel" "asks" "I") ∈ lw_all := lw_g (lw_at lw_m5 107 rfl) rfl
theorem w1201 : (Jvm.Cond.fieldLink "QuotaPeersModel" (137 : Nat) "QuotaPeersModel" "qName" "[B") ∈ lw_all := lw_g (lw_at lw_m5 108 rfl) rfl
theorem w1202 : (Jvm.Cond.fieldLink "QuotaPeersModel" (140 : Nat) "QuotaPeersModel" "qHost" "[B") ∈ lw_all := lw_g (lw_at lw_m5 109 rfl) rfl
theorem w1203 : (Jvm.Cond.fieldLink "QuotaPeersModel" (143 : Nat) "QuotaPeersModel" "qRealm" "[B") ∈ lw_all := lw_g (lw_at lw_m5 110 rfl) rfl
theorem w1204 : (Jvm.Cond.fieldLink "QuotaPeersModel" (146 : Nat) "QuotaPeersModel" "qResult" "[J") ∈ lw_all := lw_g (lw_at lw_m5 111 rfl) rfl
theorem w1205 : (Jvm.Cond.fieldLink "QuotaPeersModel" (149 : Nat) "QuotaPeersModel" "qPeer" "[I") ∈ lw_all := lw_g (lw_at lw_m5 112 rfl) rfl
theorem w1206 : (Jvm.Cond.fieldLink "QuotaPeersModel" (152 : Nat) "QuotaPeersModel" "qTimes" "[I") ∈ lw_all := lw_g (lw_at lw_m5 113 rfl) rfl
theorem w1207 : (Jvm.Cond.fieldLink "QuotaPeersModel" (155 : Nat) "QuotaPeersModel" "qHop" "[I") ∈ lw_all := lw_g (lw_at lw_m5 114 rfl) rfl
theorem w1208 : (Jvm.Cond.fieldLink "QuotaPeersModel" (158 : Nat) "QuotaPeersModel" "qEnd" "[I") ∈ lw_all := lw_g (lw_at lw_m5 115 rfl) rfl
theorem w1209 : (Jvm.Cond.fieldLink "QuotaPeersModel" (161 : Nat) "QuotaPeersModel" "qConnection" "[I") ∈ lw_all := lw_g (lw_at lw_m5 116 rfl) rfl
theorem w1210 : (Jvm.Cond.fieldLink "QuotaPeersModel" (489 : Nat) "QuotaPeersModel" "keptMany" "I") ∈ lw_all := lw_g (lw_at lw_m5 117 rfl) rfl
theorem w1211 : (Jvm.Cond.fieldLink "QuotaPeersModel" (164 : Nat) "QuotaPeersModel" "kept" "[B") ∈ lw_all := lw_g (lw_at lw_m5 118 rfl) rfl
theorem w1212 : (Jvm.Cond.fieldLink "QuotaPeersModel" (167 : Nat) "QuotaPeersModel" "keptSize" "[I") ∈ lw_all := lw_g (lw_at lw_m5 119 rfl) rfl
theorem w1213 : (Jvm.Cond.fieldLink "QuotaPeersModel" (170 : Nat) "QuotaPeersModel" "keptHost" "[B") ∈ lw_all := lw_g (lw_at lw_m5 120 rfl) rfl
theorem w1214 : (Jvm.Cond.fieldLink "QuotaPeersModel" (173 : Nat) "QuotaPeersModel" "keptEnd" "[I") ∈ lw_all := lw_g (lw_at lw_m5 121 rfl) rfl
theorem w1215 : (Jvm.Cond.fieldLink "QuotaPeersModel" (176 : Nat) "QuotaPeersModel" "keptTill" "[I") ∈ lw_all := lw_g (lw_at lw_m5 122 rfl) rfl
theorem w1216 : (Jvm.Cond.fieldLink "QuotaPeersModel" (179 : Nat) "QuotaPeersModel" "made" "[B") ∈ lw_all := lw_g (lw_at lw_m5 123 rfl) rfl
theorem w1217 : (Jvm.Cond.fieldLink "QuotaPeersModel" (222 : Nat) "QuotaPeersModel" "size" "I") ∈ lw_all := lw_g (lw_at lw_m5 124 rfl) rfl
theorem w1218 : (Jvm.Cond.fieldLink "QuotaPeersModel" (270 : Nat) "QuotaPeersModel" "base" "I") ∈ lw_all := lw_g (lw_at lw_m5 125 rfl) rfl
theorem w1219 : (Jvm.Cond.fieldLink "QuotaPeersModel" (303 : Nat) "QuotaPeersModel" "length" "I") ∈ lw_all := lw_g (lw_at lw_m5 126 rfl) rfl
theorem w1220 : (Jvm.Cond.fieldLink "QuotaPeersModel" (327 : Nat) "QuotaPeersModel" "flags" "I") ∈ lw_all := lw_g (lw_at lw_m5 127 rfl) rfl
theorem w1221 : (Jvm.Cond.fieldLink "QuotaPeersModel" (330 : Nat) "QuotaPeersModel" "command" "I") ∈ lw_all := lw_g (lw_at lw_m5 128 rfl) rfl
theorem w1222 : (Jvm.Cond.fieldLink "QuotaPeersModel" (333 : Nat) "QuotaPeersModel" "application" "I") ∈ lw_all := lw_g (lw_at lw_m5 129 rfl) rfl
theorem w1223 : (Jvm.Cond.fieldLink "QuotaPeersModel" (336 : Nat) "QuotaPeersModel" "theirHop" "I") ∈ lw_all := lw_g (lw_at lw_m5 130 rfl) rfl
theorem w1224 : (Jvm.Cond.fieldLink "QuotaPeersModel" (339 : Nat) "QuotaPeersModel" "theirEnd" "I") ∈ lw_all := lw_g (lw_at lw_m5 131 rfl) rfl
theorem w1225 : (Jvm.Cond.fieldLink "QuotaPeersModel" (281 : Nat) "QuotaPeersModel" "wrong" "I") ∈ lw_all := lw_g (lw_at lw_m5 132 rfl) rfl
theorem w1226 : (Jvm.Cond.fieldLink "QuotaPeersModel" (284 : Nat) "QuotaPeersModel" "wrongCode" "I") ∈ lw_all := lw_g (lw_at lw_m5 133 rfl) rfl
theorem w1227 : (Jvm.Cond.fieldLink "QuotaPeersModel" (182 : Nat) "QuotaPeersModel" "keeps" "[I") ∈ lw_all := lw_g (lw_at lw_m5 134 rfl) rfl
theorem w1228 : (Jvm.Cond.fieldLink "QuotaPeersModel" (185 : Nat) "QuotaPeersModel" "firstAt" "[I") ∈ lw_all := lw_g (lw_at lw_m5 135 rfl) rfl
theorem w1229 : (Jvm.Cond.fieldLink "QuotaPeersModel" (188 : Nat) "QuotaPeersModel" "firstSize" "[I") ∈ lw_all := lw_g (lw_at lw_m5 136 rfl) rfl
theorem w1230 : (Jvm.Cond.fieldLink "QuotaPeersModel" (191 : Nat) "QuotaPeersModel" "often" "[I") ∈ lw_all := lw_g (lw_at lw_m5 137 rfl) rfl
theorem w1231 : (Jvm.Cond.fieldLink "QuotaPeersModel" (287 : Nat) "QuotaPeersModel" "goodAuth" "Z") ∈ lw_all := lw_g (lw_at lw_m5 138 rfl) rfl
theorem w1232 : (Jvm.Cond.fieldLink "QuotaPeersModel" (291 : Nat) "QuotaPeersModel" "whoAt" "I") ∈ lw_all := lw_g (lw_at lw_m5 139 rfl) rfl
theorem w1233 : (Jvm.Cond.fieldLink "QuotaPeersModel" (294 : Nat) "QuotaPeersModel" "whoSize" "I") ∈ lw_all := lw_g (lw_at lw_m5 140 rfl) rfl
theorem w1234 : (Jvm.Cond.fieldLink "QuotaPeersModel" (297 : Nat) "QuotaPeersModel" "wantedAt" "I") ∈ lw_all := lw_g (lw_at lw_m5 141 rfl) rfl
theorem w1235 : (Jvm.Cond.fieldLink "QuotaPeersModel" (300 : Nat) "QuotaPeersModel" "usedAt" "I") ∈ lw_all := lw_g (lw_at lw_m5 142 rfl) rfl
theorem w1236 : (Jvm.Cond.fieldLink "QuotaPeersModel" (194 : Nat) "QuotaPeersModel" "ends" "[I") ∈ lw_all := lw_g (lw_at lw_m5 143 rfl) rfl
theorem w1237 : (Jvm.Cond.fieldLink "QuotaPeersModel" (197 : Nat) "QuotaPeersModel" "behind" "[I") ∈ lw_all := lw_g (lw_at lw_m5 144 rfl) rfl
theorem w1238 : (Jvm.Cond.fieldLink "QuotaPeersModel" (200 : Nat) "QuotaPeersModel" "group" "[I") ∈ lw_all := lw_g (lw_at lw_m5 145 rfl) rfl
theorem w1239 : (Jvm.Cond.fieldLink "QuotaPeersModel" (432 : Nat) "QuotaPeersModel" "result" "I") ∈ lw_all := lw_g (lw_at lw_m5 146 rfl) rfl
theorem w1240 : (Jvm.Cond.fieldLink "QuotaPeersModel" (423 : Nat) "QuotaPeersModel" "tells" "Z") ∈ lw_all := lw_g (lw_at lw_m5 147 rfl) rfl
theorem w1241 : (Jvm.Cond.fieldLink "QuotaPeersModel" (435 : Nat) "QuotaPeersModel" "told" "J") ∈ lw_all := lw_g (lw_at lw_m5 148 rfl) rfl
theorem w1242 : (Jvm.Cond.fieldLink "QuotaPeersModel" (426 : Nat) "QuotaPeersModel" "enough" "I") ∈ lw_all := lw_g (lw_at lw_m5 149 rfl) rfl
theorem w1428 : (Jvm.Cond.arrayClass Jvm.ClassFile.FieldType.boolean) ∈ lw_all := lw_g (lw_at lw_m6 95 rfl) rfl
theorem w1429 : (Jvm.Cond.arrayClass Jvm.ClassFile.FieldType.long) ∈ lw_all := lw_g (lw_at lw_m6 96 rfl) rfl
theorem w1430 : (Jvm.Cond.methodLink "QuotaPeersLaw" (17 : Nat) ({ cls := "QuotaPeersModel", name := "sign", desc := "(I)I" } : Jvm.MethodName)) ∈ lw_all := lw_g (lw_at lw_m6 97 rfl) rfl
theorem w1431 : (Jvm.Cond.instanceMethod ({ cls := "QuotaPeersModel", name := "sign", desc := "(I)I" } : Jvm.MethodName)) ∈ lw_all := lw_g (lw_at lw_m6 98 rfl) rfl
theorem w1432 : (Jvm.Cond.selects "QuotaPeersModel" ({ cls := "QuotaPeersModel", name := "sign", desc := "(I)I" } : Jvm.MethodName) ({ cls := "QuotaPeersModel", name := "sign", desc := "(I)I" } : Jvm.MethodName)) ∈ lw_all := lw_g (lw_at lw_m6 99 rfl) rfl
theorem w1433 : (Jvm.Cond.code ({ cls := "QuotaPeersModel", name := "sign", desc := "(I)I" } : Jvm.MethodName) prog_13_method_5_code (5 : Nat) (Option.some Jvm.ClassFile.FieldType.int)) ∈ lw_all := lw_g (lw_at lw_m6 100 rfl) rfl
theorem w1434 : (Jvm.Cond.methodLink "QuotaPeersModel" (212 : Nat) ({ cls := "QuotaPeersModel", name := "isSign", desc := "(I)Z" } : Jvm.MethodName)) ∈ lw_all := lw_g (lw_at lw_m6 101 rfl) rfl
theorem w1435 : (Jvm.Cond.static ({ cls := "QuotaPeersModel", name := "isSign", desc := "(I)Z" } : Jvm.MethodName)) ∈ lw_all := lw_g (lw_at lw_m6 102 rfl) rfl
theorem w1436 : (Jvm.Cond.code ({ cls := "QuotaPeersModel", name := "isSign", desc := "(I)Z" } : Jvm.MethodName) prog_13_method_4_code (1 : Nat) (Option.some Jvm.ClassFile.FieldType.boolean)) ∈ lw_all := lw_g (lw_at lw_m6 103 rfl) rfl
theorem w1437 : (Jvm.Cond.methodLink "QuotaPeersLaw" (22 : Nat) ({ cls := "QuotaPeersModel", name := "own", desc := "()I" } : Jvm.MethodName)) ∈ lw_all := lw_g (lw_at lw_m6 104 rfl) rfl
theorem w1438 : (Jvm.Cond.instanceMethod ({ cls := "QuotaPeersModel", name := "own", desc := "()I" } : Jvm.MethodName)) ∈ lw_all := lw_g (lw_at lw_m6 105 rfl) rfl
theorem w1439 : (Jvm.Cond.selects "QuotaPeersModel" ({ cls := "QuotaPeersModel", name := "own", desc := "()I" } : Jvm.MethodName) ({ cls := "QuotaPeersModel", name := "own", desc := "()I" } : Jvm.MethodName)) ∈ lw_all := lw_g (lw_at lw_m6 106 rfl) rfl
theorem w1440 : (Jvm.Cond.code ({ cls := "QuotaPeersModel", name := "own", desc := "()I" } : Jvm.MethodName) prog_13_method_6_code (2 : Nat) (Option.some Jvm.ClassFile.FieldType.int)) ∈ lw_all := lw_g (lw_at lw_m6 107 rfl) rfl
theorem w1441 : (Jvm.Cond.methodLink "QuotaPeersLaw" (27 : Nat) ({ cls := "QuotaPeersModel", name := "peer", desc := "(Z)I" } : Jvm.MethodName)) ∈ lw_all := lw_g (lw_at lw_m6 108 rfl) rfl
theorem w1442 : (Jvm.Cond.instanceMethod ({ cls := "QuotaPeersModel", name := "peer", desc := "(Z)I" } : Jvm.MethodName)) ∈ lw_all := lw_g (lw_at lw_m6 109 rfl) rfl
theorem w1443 : (Jvm.Cond.selects "QuotaPeersModel" ({ cls := "QuotaPeersModel", name := "peer", desc := "(Z)I" } : Jvm.MethodName) ({ cls := "QuotaPeersModel", name := "peer", desc := "(Z)I" } : Jvm.MethodName)) ∈ lw_all := lw_g (lw_at lw_m6 110 rfl) rfl
theorem w1444 : (Jvm.Cond.code ({ cls := "QuotaPeersModel", name := "peer", desc := "(Z)I" } : Jvm.MethodName) prog_13_method_7_code (6 : Nat) (Option.some Jvm.ClassFile.FieldType.int)) ∈ lw_all := lw_g (lw_at lw_m6 111 rfl) rfl
theorem w1445 : (Jvm.Cond.methodLink "QuotaPeersLaw" (31 : Nat) ({ cls := "QuotaPeersModel", name := "start", desc := "(I)I" } : Jvm.MethodName)) ∈ lw_all := lw_g (lw_at lw_m6 112 rfl) rfl
theorem w1446 : (Jvm.Cond.instanceMethod ({ cls := "QuotaPeersModel", name := "start", desc := "(I)I" } : Jvm.MethodName)) ∈ lw_all := lw_g (lw_at lw_m6 113 rfl) rfl
theorem w1447 : (Jvm.Cond.selects "QuotaPeersModel" ({ cls := "QuotaPeersModel", name := "start", desc := "(I)I" } : Jvm.MethodName) ({ cls := "QuotaPeersModel", name := "start", desc := "(I)I" } : Jvm.MethodName)) ∈ lw_all := lw_g (lw_at lw_m6 114 rfl) rfl
theorem w1448 : (Jvm.Cond.code ({ cls := "QuotaPeersModel", name := "start", desc := "(I)I" } : Jvm.MethodName) prog_13_method_82_code (3 : Nat) (Option.some Jvm.ClassFile.FieldType.int)) ∈ lw_all := lw_g (lw_at lw_m6 115 rfl) rfl
theorem w1449 : (Jvm.Cond.methodLink "QuotaPeersModel" (543 : Nat) ({ cls := "QuotaPeersModel", name := "noPeer", desc := "(I)Z" } : Jvm.MethodName)) ∈ lw_all := lw_g (lw_at lw_m6 116 rfl) rfl
theorem w1451 : (Jvm.Cond.instanceMethod ({ cls := "QuotaPeersModel", name := "noPeer", desc := "(I)Z" } : Jvm.MethodName)) ∈ lw_all := lw_g (lw_at lw_m6 118 rfl) rfl
theorem w1452 : (Jvm.Cond.code ({ cls := "QuotaPeersModel", name := "noPeer", desc := "(I)Z" } : Jvm.MethodName) prog_13_method_80_code (2 : Nat) (Option.some Jvm.ClassFile.FieldType.boolean)) ∈ lw_all := lw_g (lw_at lw_m6 119 rfl) rfl
theorem w1453 : (Jvm.Cond.methodLink "QuotaPeersModel" (546 : Nat) ({ cls := "QuotaPeersModel", name := "begin", desc := "(I)I" } : Jvm.MethodName)) ∈ lw_all := lw_g (lw_at lw_m6 120 rfl) rfl
theorem w1455 : (Jvm.Cond.instanceMethod ({ cls := "QuotaPeersModel", name := "begin", desc := "(I)I" } : Jvm.MethodName)) ∈ lw_all := lw_g (lw_at lw_m6 122 rfl) rfl
theorem w1456 : (Jvm.Cond.code ({ cls := "QuotaPeersModel", name := "begin", desc := "(I)I" } : Jvm.MethodName) prog_13_method_81_code (3 : Nat) (Option.some Jvm.ClassFile.FieldType.int)) ∈ lw_all := lw_g (lw_at lw_m6 123 rfl) rfl
theorem w1457 : (Jvm.Cond.methodLink "QuotaPeersModel" (540 : Nat) ({ cls := "QuotaPeersModel", name := "fresh", desc := "(I)I" } : Jvm.MethodName)) ∈ lw_all := lw_g (lw_at lw_m6 124 rfl) rfl
theorem w1459 : (Jvm.Cond.instanceMethod ({ cls := "QuotaPeersModel", name := "fresh", desc := "(I)I" } : Jvm.MethodName)) ∈ lw_all := lw_g (lw_at lw_m6 126 rfl) rfl
theorem w1460 : (Jvm.Cond.code ({ cls := "QuotaPeersModel", name := "fresh", desc := "(I)I" } : Jvm.MethodName) prog_13_method_43_code (3 : Nat) (Option.some Jvm.ClassFile.FieldType.int)) ∈ lw_all := lw_g (lw_at lw_m6 127 rfl) rfl
theorem w1461 : (Jvm.Cond.methodLink "QuotaPeersModel" (367 : Nat) ({ cls := "QuotaPeersModel", name := "become", desc := "(II)V" } : Jvm.MethodName)) ∈ lw_all := lw_g (lw_at lw_m6 128 rfl) rfl
theorem w1463 : (Jvm.Cond.instanceMethod ({ cls := "QuotaPeersModel", name := "become", desc := "(II)V" } : Jvm.MethodName)) ∈ lw_all := lw_g (lw_at lw_m6 130 rfl) rfl
theorem w1464 : (Jvm.Cond.code ({ cls := "QuotaPeersModel", name := "become", desc := "(II)V" } : Jvm.MethodName) prog_13_method_44_code (5 : Nat) (Option.none : Option Jvm.ClassFile.FieldType)) ∈ lw_all := lw_g (lw_at lw_m6 131 rfl) rfl
theorem w1465 : (Jvm.Cond.methodLink "QuotaPeersModel" (358 : Nat) ({ cls := "QuotaPeersModel", name := "sendWatch", desc := "(I)V" } : Jvm.MethodName)) ∈ lw_all := lw_g (lw_at lw_m6 132 rfl) rfl
theorem w1467 : (Jvm.Cond.instanceMethod ({ cls := "QuotaPeersModel", name := "sendWatch", desc := "(I)V" } : Jvm.MethodName)) ∈ lw_all := lw_g (lw_at lw_m6 134 rfl) rfl
theorem w1468 : (Jvm.Cond.code ({ cls := "QuotaPeersModel", name := "sendWatch", desc := "(I)V" } : Jvm.MethodName) prog_13_method_21_code (2 : Nat) (Option.none : Option Jvm.ClassFile.FieldType)) ∈ lw_all := lw_g (lw_at lw_m6 135 rfl) rfl
theorem w1469 : (Jvm.Cond.methodLink "QuotaPeersModel" (248 : Nat) ({ cls := "QuotaPeersModel", name := "nextHop", desc := "()I" } : Jvm.MethodName)) ∈ lw_all := lw_g (lw_at lw_m6 136 rfl) rfl
theorem w1471 : (Jvm.Cond.instanceMethod ({ cls := "QuotaPeersModel", name := "nextHop", desc := "()I" } : Jvm.MethodName)) ∈ lw_all := lw_g (lw_at lw_m6 138 rfl) rfl
theorem w1472 : (Jvm.Cond.code ({ cls := "QuotaPeersModel", name := "nextHop", desc := "()I" } : Jvm.MethodName) prog_13_method_18_code (1 : Nat) (Option.some Jvm.ClassFile.FieldType.int)) ∈ lw_all := lw_g (lw_at lw_m6 139 rfl) rfl
theorem w1473 : (Jvm.Cond.methodLink "QuotaPeersModel" (252 : Nat) ({ cls := "QuotaPeersModel", name := "head", desc := "(IIIII)V" } : Jvm.MethodName)) ∈ lw_all := lw_g (lw_at lw_m6 140 rfl) rfl
theorem w1475 : (Jvm.Cond.instanceMethod ({ cls := "QuotaPeersModel", name := "head", desc := "(IIIII)V" } : Jvm.MethodName)) ∈ lw_all := lw_g (lw_at lw_m6 142 rfl) rfl
theorem w1476 : (Jvm.Cond.code ({ cls := "QuotaPeersModel", name := "head", desc := "(IIIII)V" } : Jvm.MethodName) prog_13_method_10_code (6 : Nat) (Option.none : Option Jvm.ClassFile.FieldType)) ∈ lw_all := lw_g (lw_at lw_m6 143 rfl) rfl
theorem w1477 : (Jvm.Cond.methodLink "QuotaPeersModel" (225 : Nat) ({ cls := "QuotaPeersModel", name := "put", desc := "(II)V" } : Jvm.MethodName)) ∈ lw_all := lw_g (lw_at lw_m6 144 rfl) rfl
theorem w1479 : (Jvm.Cond.instanceMethod ({ cls := "QuotaPeersModel", name := "put", desc := "(II)V" } : Jvm.MethodName)) ∈ lw_all := lw_g (lw_at lw_m6 146 rfl) rfl
theorem w1480 : (Jvm.Cond.code ({ cls := "QuotaPeersModel", name := "put", desc := "(II)V" } : Jvm.MethodName) prog_13_method_9_code (4 : Nat) (Option.none : Option Jvm.ClassFile.FieldType)) ∈ lw_all := lw_g (lw_at lw_m6 147 rfl) rfl
theorem w1481 : (Jvm.Cond.methodLink "QuotaPeersModel" (256 : Nat) ({ cls := "QuotaPeersModel", name := "me", desc := "()V" } : Jvm.MethodName)) ∈ lw_all := lw_g (lw_at lw_m6 148 rfl) rfl
theorem w1483 : (Jvm.Cond.instanceMethod ({ cls := "QuotaPeersModel", name := "me", desc := "()V" } : Jvm.MethodName)) ∈ lw_all := lw_g (lw_at lw_m6 150 rfl) rfl
theorem w1484 : (Jvm.Cond.code ({ cls := "QuotaPeersModel", name := "me", desc := "()V" } : Jvm.MethodName) prog_13_method_15_code (1 : Nat) (Option.none : Option Jvm.ClassFile.FieldType)) ∈ lw_all := lw_g (lw_at lw_m6 151 rfl) rfl
theorem w1485 : (Jvm.Cond.methodLink "QuotaPeersModel" (235 : Nat) ({ cls := "QuotaPeersModel", name := "text", desc := "(I[BII)V" } : Jvm.MethodName)) ∈ lw_all := lw_g (lw_at lw_m6 152 rfl) rfl
theorem w1487 : (Jvm.Cond.instanceMethod ({ cls := "QuotaPeersModel", name := "text", desc := "(I[BII)V" } : Jvm.MethodName)) ∈ lw_all := lw_g (lw_at lw_m6 154 rfl) rfl
theorem w1488 : (Jvm.Cond.code ({ cls := "QuotaPeersModel", name := "text", desc := "(I[BII)V" } : Jvm.MethodName) prog_13_method_14_code (6 : Nat) (Option.none : Option Jvm.ClassFile.FieldType)) ∈ lw_all := lw_g (lw_at lw_m6 155 rfl) rfl
theorem w1489 : (Jvm.Cond.methodLink "QuotaPeersModel" (229 : Nat) ({ cls := "QuotaPeersModel", name := "attribute", desc := "(II)V" } : Jvm.MethodName)) ∈ lw_all := lw_g (lw_at lw_m6 156 rfl) rfl
theorem w1491 : (Jvm.Cond.instanceMethod ({ cls := "QuotaPeersModel", name := "attribute", desc := "(II)V" } : Jvm.MethodName)) ∈ lw_all := lw_g (lw_at lw_m6 158 rfl) rfl
theorem w1492 : (Jvm.Cond.code ({ cls := "QuotaPeersModel", name := "attribute", desc := "(II)V" } : Jvm.MethodName) prog_13_method_11_code (3 : Nat) (Option.none : Option Jvm.ClassFile.FieldType)) ∈ lw_all := lw_g (lw_at lw_m6 159 rfl) rfl
theorem w1493 : (Jvm.Cond.methodLink "QuotaPeersModel" (232 : Nat) ({ cls := "QuotaPeersModel", name := "pad", desc := "()V" } : Jvm.MethodName)) ∈ lw_all := lw_g (lw_at lw_m6 160 rfl) rfl
theorem w1495 : (Jvm.Cond.instanceMethod ({ cls := "QuotaPeersModel", name := "pad", desc := "()V" } : Jvm.MethodName)) ∈ lw_all := lw_g (lw_at lw_m6 162 rfl) rfl
theorem w1496 : (Jvm.Cond.code ({ cls := "QuotaPeersModel", name := "pad", desc := "()V" } : Jvm.MethodName) prog_13_method_13_code (1 : Nat) (Option.none : Option Jvm.ClassFile.FieldType)) ∈ lw_all := lw_g (lw_at lw_m6 163 rfl) rfl
theorem w1497 : (Jvm.Cond.constant "QuotaPeersModel" (239 : Nat) (1752132965 : Int32)) ∈ lw_all := lw_g (lw_at lw_m6 164 rfl) rfl
theorem w1498 : (Jvm.Cond.methodLink "QuotaPeersModel" (241 : Nat) ({ cls := "QuotaPeersModel", name := "putNumber", desc := "(II)V" } : Jvm.MethodName)) ∈ lw_all := lw_g (lw_at lw_m6 165 rfl) rfl
theorem w1500 : (Jvm.Cond.instanceMethod ({ cls := "QuotaPeersModel", name := "putNumber", desc := "(II)V" } : Jvm.MethodName)) ∈ lw_all := lw_g (lw_at lw_m6 167 rfl) rfl
theorem w1501 : (Jvm.Cond.code ({ cls := "QuotaPeersModel", name := "putNumber", desc := "(II)V" } : Jvm.MethodName) prog_13_method_12_code (3 : Nat) (Option.none : Option Jvm.ClassFile.FieldType)) ∈ lw_all := lw_g (lw_at lw_m6 168 rfl) rfl
theorem w1502 : (Jvm.Cond.methodLink "QuotaPeersModel" (266 : Nat) ({ cls := "QuotaPeersModel", name := "connectionOf", desc := "(I)I" } : Jvm.MethodName)) ∈ lw_all := lw_g (lw_at lw_m6 169 rfl) rfl
theorem w1504 : (Jvm.Cond.instanceMethod ({ cls := "QuotaPeersModel", name := "connectionOf", desc := "(I)I" } : Jvm.MethodName)) ∈ lw_all := lw_g (lw_at lw_m6 171 rfl) rfl
theorem w1505 : (Jvm.Cond.code ({ cls := "QuotaPeersModel", name := "connectionOf", desc := "(I)I" } : Jvm.MethodName) prog_13_method_19_code (2 : Nat) (Option.some Jvm.ClassFile.FieldType.int)) ∈ lw_all := lw_g (lw_at lw_m6 172 rfl) rfl
theorem w1506 : (Jvm.Cond.methodLink "QuotaPeersModel" (262 : Nat) ({ cls := "QuotaPeersModel", name := "go", desc := "(I)V" } : Jvm.MethodName)) ∈ lw_all := lw_g (lw_at lw_m6 173 rfl) rfl
theorem w1508 : (Jvm.Cond.instanceMethod ({ cls := "QuotaPeersModel", name := "go", desc := "(I)V" } : Jvm.MethodName)) ∈ lw_all := lw_g (lw_at lw_m6 175 rfl) rfl
theorem w1509 : (Jvm.Cond.code ({ cls := "QuotaPeersModel", name := "go", desc := "(I)V" } : Jvm.MethodName) prog_13_method_17_code (3 : Nat) (Option.none : Option Jvm.ClassFile.FieldType)) ∈ lw_all := lw_g (lw_at lw_m6 176 rfl) rfl
theorem w1510 : (Jvm.Cond.methodLink "QuotaPeersModel" (361 : Nat) ({ cls := "QuotaPeersModel", name := "giveOver", desc := "(I)V" } : Jvm.MethodName)) ∈ lw_all := lw_g (lw_at lw_m6 177 rfl) rfl
theorem w1512 : (Jvm.Cond.instanceMethod ({ cls := "QuotaPeersModel", name := "giveOver", desc := "(I)V" } : Jvm.MethodName)) ∈ lw_all := lw_g (lw_at lw_m6 179 rfl) rfl
theorem w1513 : (Jvm.Cond.code ({ cls := "QuotaPeersModel", name := "giveOver", desc := "(I)V" } : Jvm.MethodName) prog_13_method_52_code (4 : Nat) (Option.none : Option Jvm.ClassFile.FieldType)) ∈ lw_all := lw_g (lw_at lw_m6 180 rfl) rfl
theorem w1514 : (Jvm.Cond.methodLink "QuotaPeersModel" (385 : Nat) ({ cls := "QuotaPeersModel", name := "leastUsable", desc := "()I" } : Jvm.MethodName)) ∈ lw_all := lw_g (lw_at lw_m6 181 rfl) rfl
theorem w1516 : (Jvm.Cond.instanceMethod ({ cls := "QuotaPeersModel", name := "leastUsable", desc := "()I" } : Jvm.MethodName)) ∈ lw_all := lw_g (lw_at lw_m6 183 rfl) rfl
theorem w1517 : (Jvm.Cond.code ({ cls := "QuotaPeersModel", name := "leastUsable", desc := "()I" } : Jvm.MethodName) prog_13_method_50_code (2 : Nat) (Option.some Jvm.ClassFile.FieldType.int)) ∈ lw_all := lw_g (lw_at lw_m6 184 rfl) rfl
theorem w1518 : (Jvm.Cond.methodLink "QuotaPeersModel" (379 : Nat) ({ cls := "QuotaPeersModel", name := "isUsable", desc := "(I)Z" } : Jvm.MethodName)) ∈ lw_all := lw_g (lw_at lw_m6 185 rfl) rfl
theorem w1520 : (Jvm.Cond.instanceMethod ({ cls := "QuotaPeersModel", name := "isUsable", desc := "(I)Z" } : Jvm.MethodName)) ∈ lw_all := lw_g (lw_at lw_m6 187 rfl) rfl
theorem w1521 : (Jvm.Cond.code ({ cls := "QuotaPeersModel", name := "isUsable", desc := "(I)Z" } : Jvm.MethodName) prog_13_method_49_code (2 : Nat) (Option.some Jvm.ClassFile.FieldType.boolean)) ∈ lw_all := lw_g (lw_at lw_m6 188 rfl) rfl
theorem w1522 : (Jvm.Cond.methodLink "QuotaPeersModel" (388 : Nat) ({ cls := "QuotaPeersModel", name := "sendAsk", desc := "(II)V" } : Jvm.MethodName)) ∈ lw_all := lw_g (lw_at lw_m6 189 rfl) rfl
theorem w1524 : (Jvm.Cond.instanceMethod ({ cls := "QuotaPeersModel", name := "sendAsk", desc := "(II)V" } : Jvm.MethodName)) ∈ lw_all := lw_g (lw_at lw_m6 191 rfl) rfl
theorem w1525 : (Jvm.Cond.code ({ cls := "QuotaPeersModel", name := "sendAsk", desc := "(II)V" } : Jvm.MethodName) prog_13_method_51_code (3 : Nat) (Option.none : Option Jvm.ClassFile.FieldType)) ∈ lw_all := lw_g (lw_at lw_m6 192 rfl) rfl
theorem w1526 : (Jvm.Cond.constantLong "QuotaPeersModel" (391 : Nat) (3002 : Int64)) ∈ lw_all := lw_g (lw_at lw_m6 193 rfl) rfl
theorem w1527 : (Jvm.Cond.methodLink "QuotaPeersLaw" (35 : Nat) ({ cls := "QuotaPeersModel", name := "accept", desc := "()I" } : Jvm.MethodName)) ∈ lw_all := lw_g (lw_at lw_m6 194 rfl) rfl
theorem w1528 : (Jvm.Cond.instanceMethod ({ cls := "QuotaPeersModel", name := "accept", desc := "()I" } : Jvm.MethodName)) ∈ lw_all := lw_g (lw_at lw_m6 195 rfl) rfl
theorem w1529 : (Jvm.Cond.selects "QuotaPeersModel" ({ cls := "QuotaPeersModel", name := "accept", desc := "()I" } : Jvm.MethodName) ({ cls := "QuotaPeersModel", name := "accept", desc := "()I" } : Jvm.MethodName)) ∈ lw_all := lw_g (lw_at lw_m6 196 rfl) rfl
theorem w1530 : (Jvm.Cond.code ({ cls := "QuotaPeersModel", name := "accept", desc := "()I" } : Jvm.MethodName) prog_13_method_83_code (2 : Nat) (Option.some Jvm.ClassFile.FieldType.int)) ∈ lw_all := lw_g (lw_at lw_m6 197 rfl) rfl
theorem w1531 : (Jvm.Cond.methodLink "QuotaPeersLaw" (40 : Nat) ({ cls := "QuotaPeersModel", name := "connected", desc := "(IZ)I" } : Jvm.MethodName)) ∈ lw_all := lw_g (lw_at lw_m6 198 rfl) rfl
theorem w1532 : (Jvm.Cond.instanceMethod ({ cls := "QuotaPeersModel", name := "connected", desc := "(IZ)I" } : Jvm.MethodName)) ∈ lw_all := lw_g (lw_at lw_m6 199 rfl) rfl
theorem w1533 : (Jvm.Cond.selects "QuotaPeersModel" ({ cls := "QuotaPeersModel", name := "connected", desc := "(IZ)I" } : Jvm.MethodName) ({ cls := "QuotaPeersModel", name := "connected", desc := "(IZ)I" } : Jvm.MethodName)) ∈ lw_all := lw_g (lw_at lw_m6 200 rfl) rfl
theorem w1534 : (Jvm.Cond.code ({ cls := "QuotaPeersModel", name := "connected", desc := "(IZ)I" } : Jvm.MethodName) prog_13_method_84_code (4 : Nat) (Option.some Jvm.ClassFile.FieldType.int)) ∈ lw_all := lw_g (lw_at lw_m6 201 rfl) rfl
theorem w1535 : (Jvm.Cond.methodLink "QuotaPeersModel" (396 : Nat) ({ cls := "QuotaPeersModel", name := "in", desc := "(III)Z" } : Jvm.MethodName)) ∈ lw_all := lw_g (lw_at lw_m6 202 rfl) rfl
theorem w1536 : (Jvm.Cond.static ({ cls := "QuotaPeersModel", name := "in", desc := "(III)Z" } : Jvm.MethodName)) ∈ lw_all := lw_g (lw_at lw_m6 203 rfl) rfl
theorem w1537 : (Jvm.Cond.code ({ cls := "QuotaPeersModel", name := "in", desc := "(III)Z" } : Jvm.MethodName) prog_13_method_3_code (3 : Nat) (Option.some Jvm.ClassFile.FieldType.boolean)) ∈ lw_all := lw_g (lw_at lw_m6 204 rfl) rfl
theorem w1538 : (Jvm.Cond.methodLink "QuotaPeersModel" (525 : Nat) ({ cls := "QuotaPeersModel", name := "drop", desc := "(I)V" } : Jvm.MethodName)) ∈ lw_all := lw_g (lw_at lw_m6 205 rfl) rfl
theorem w1540 : (Jvm.Cond.instanceMethod ({ cls := "QuotaPeersModel", name := "drop", desc := "(I)V" } : Jvm.MethodName)) ∈ lw_all := lw_g (lw_at lw_m6 207 rfl) rfl
theorem w1541 : (Jvm.Cond.code ({ cls := "QuotaPeersModel", name := "drop", desc := "(I)V" } : Jvm.MethodName) prog_13_method_47_code (4 : Nat) (Option.none : Option Jvm.ClassFile.FieldType)) ∈ lw_all := lw_g (lw_at lw_m6 208 rfl) rfl
theorem w1542 : (Jvm.Cond.methodLink "QuotaPeersModel" (373 : Nat) ({ cls := "QuotaPeersModel", name := "shut", desc := "(I)V" } : Jvm.MethodName)) ∈ lw_all := lw_g (lw_at lw_m6 209 rfl) rfl
theorem w1544 : (Jvm.Cond.instanceMethod ({ cls := "QuotaPeersModel", name := "shut", desc := "(I)V" } : Jvm.MethodName)) ∈ lw_all := lw_g (lw_at lw_m6 211 rfl) rfl
theorem w1545 : (Jvm.Cond.code ({ cls := "QuotaPeersModel", name := "shut", desc := "(I)V" } : Jvm.MethodName) prog_13_method_42_code (3 : Nat) (Option.none : Option Jvm.ClassFile.FieldType)) ∈ lw_all := lw_g (lw_at lw_m6 212 rfl) rfl
theorem w1546 : (Jvm.Cond.methodLink "QuotaPeersModel" (376 : Nat) ({ cls := "QuotaPeersModel", name := "accepts", desc := "(I)V" } : Jvm.MethodName)) ∈ lw_all := lw_g (lw_at lw_m6 213 rfl) rfl
theorem w1548 : (Jvm.Cond.instanceMethod ({ cls := "QuotaPeersModel", name := "accepts", desc := "(I)V" } : Jvm.MethodName)) ∈ lw_all := lw_g (lw_at lw_m6 215 rfl) rfl
theorem w1549 : (Jvm.Cond.code ({ cls := "QuotaPeersModel", name := "accepts", desc := "(I)V" } : Jvm.MethodName) prog_13_method_45_code (2 : Nat) (Option.none : Option Jvm.ClassFile.FieldType)) ∈ lw_all := lw_g (lw_at lw_m6 216 rfl) rfl
theorem w1550 : (Jvm.Cond.methodLink "QuotaPeersModel" (364 : Nat) ({ cls := "QuotaPeersModel", name := "answerCame", desc := "(I)V" } : Jvm.MethodName)) ∈ lw_all := lw_g (lw_at lw_m6 217 rfl) rfl
theorem w1552 : (Jvm.Cond.instanceMethod ({ cls := "QuotaPeersModel", name := "answerCame", desc := "(I)V" } : Jvm.MethodName)) ∈ lw_all := lw_g (lw_at lw_m6 219 rfl) rfl
theorem w1553 : (Jvm.Cond.code ({ cls := "QuotaPeersModel", name := "answerCame", desc := "(I)V" } : Jvm.MethodName) prog_13_method_41_code (2 : Nat) (Option.none : Option Jvm.ClassFile.FieldType)) ∈ lw_all := lw_g (lw_at lw_m6 220 rfl) rfl
theorem w1554 : (Jvm.Cond.methodLink "QuotaPeersModel" (259 : Nat) ({ cls := "QuotaPeersModel", name := "address", desc := "()V" } : Jvm.MethodName)) ∈ lw_all := lw_g (lw_at lw_m6 221 rfl) rfl
theorem w1556 : (Jvm.Cond.instanceMethod ({ cls := "QuotaPeersModel", name := "address", desc := "()V" } : Jvm.MethodName)) ∈ lw_all := lw_g (lw_at lw_m6 223 rfl) rfl
theorem w1557 : (Jvm.Cond.code ({ cls := "QuotaPeersModel", name := "address", desc := "()V" } : Jvm.MethodName) prog_13_method_16_code (1 : Nat) (Option.none : Option Jvm.ClassFile.FieldType)) ∈ lw_all := lw_g (lw_at lw_m6 224 rfl) rfl
theorem w1558 : (Jvm.Cond.constant "QuotaPeersModel" (240 : Nat) (2130706433 : Int32)) ∈ lw_all := lw_g (lw_at lw_m6 225 rfl) rfl
theorem w1559 : (Jvm.Cond.constant "QuotaPeersModel" (244 : Nat) (1885693298 : Int32)) ∈ lw_all := lw_g (lw_at lw_m6 226 rfl) rfl
theorem w1560 : (Jvm.Cond.methodLink "QuotaPeersModel" (549 : Nat) ({ cls := "QuotaPeersModel", name := "sendOpening", desc := "(I)V" } : Jvm.MethodName)) ∈ lw_all := lw_g (lw_at lw_m6 227 rfl) rfl
theorem w1562 : (Jvm.Cond.instanceMethod ({ cls := "QuotaPeersModel", name := "sendOpening", desc := "(I)V" } : Jvm.MethodName)) ∈ lw_all := lw_g (lw_at lw_m6 229 rfl) rfl
theorem w1563 : (Jvm.Cond.code ({ cls := "QuotaPeersModel", name := "sendOpening", desc := "(I)V" } : Jvm.MethodName) prog_13_method_20_code (2 : Nat) (Option.none : Option Jvm.ClassFile.FieldType)) ∈ lw_all := lw_g (lw_at lw_m6 230 rfl) rfl
theorem w1564 : (Jvm.Cond.methodLink "QuotaPeersModel" (519 : Nat) ({ cls := "QuotaPeersModel", name := "choose", desc := "(I)V" } : Jvm.MethodName)) ∈ lw_all := lw_g (lw_at lw_m6 231 rfl) rfl
theorem w1566 : (Jvm.Cond.instanceMethod ({ cls := "QuotaPeersModel", name := "choose", desc := "(I)V" } : Jvm.MethodName)) ∈ lw_all := lw_g (lw_at lw_m6 233 rfl) rfl
theorem w1567 : (Jvm.Cond.code ({ cls := "QuotaPeersModel", name := "choose", desc := "(I)V" } : Jvm.MethodName) prog_13_method_46_code (2 : Nat) (Option.none : Option Jvm.ClassFile.FieldType)) ∈ lw_all := lw_g (lw_at lw_m6 234 rfl) rfl
theorem w1568 : (Jvm.Cond.methodLink "QuotaPeersModel" (370 : Nat) ({ cls := "QuotaPeersModel", name := "isLater", desc := "(I)Z" } : Jvm.MethodName)) ∈ lw_all := lw_g (lw_at lw_m6 235 rfl) rfl
theorem w1570 : (Jvm.Cond.instanceMethod ({ cls := "QuotaPeersModel", name := "isLater", desc := "(I)Z" } : Jvm.MethodName)) ∈ lw_all := lw_g (lw_at lw_m6 237 rfl) rfl
theorem w1571 : (Jvm.Cond.code ({ cls := "QuotaPeersModel", name := "isLater", desc := "(I)Z" } : Jvm.MethodName) prog_13_method_8_code (3 : Nat) (Option.some Jvm.ClassFile.FieldType.boolean)) ∈ lw_all := lw_g (lw_at lw_m6 238 rfl) rfl
theorem w1572 : (Jvm.Cond.methodLink "QuotaPeersLaw" (47 : Nat) ({ cls := "QuotaPeersModel", name := "feed", desc := "(IJJJJI)I" } : Jvm.MethodName)) ∈ lw_all := lw_g (lw_at lw_m6 239 rfl) rfl
theorem w1573 : (Jvm.Cond.instanceMethod ({ cls := "QuotaPeersModel", name := "feed", desc := "(IJJJJI)I" } : Jvm.MethodName)) ∈ lw_all := lw_g (lw_at lw_m7 0 rfl) rfl
theorem w1574 : (Jvm.Cond.selects "QuotaPeersModel" ({ cls := "QuotaPeersModel", name := "feed", desc := "(IJJJJI)I" } : Jvm.MethodName) ({ cls := "QuotaPeersModel", name := "feed", desc := "(IJJJJI)I" } : Jvm.MethodName)) ∈ lw_all := lw_g (lw_at lw_m7 1 rfl) rfl
theorem w1575 : (Jvm.Cond.code ({ cls := "QuotaPeersModel", name := "feed", desc := "(IJJJJI)I" } : Jvm.MethodName) prog_13_method_85_code (16 : Nat) (Option.some Jvm.ClassFile.FieldType.int)) ∈ lw_all := lw_g (lw_at lw_m7 2 rfl) rfl
theorem w1576 : (Jvm.Cond.methodLink "QuotaPeersModel" (309 : Nat) ({ cls := "QuotaPeersModel", name := "number3", desc := "(I)I" } : Jvm.MethodName)) ∈ lw_all := lw_g (lw_at lw_m7 3 rfl) rfl
theorem w1578 : (Jvm.Cond.instanceMethod ({ cls := "QuotaPeersModel", name := "number3", desc := "(I)I" } : Jvm.MethodName)) ∈ lw_all := lw_g (lw_at lw_m7 5 rfl) rfl
theorem w1579 : (Jvm.Cond.code ({ cls := "QuotaPeersModel", name := "number3", desc := "(I)I" } : Jvm.MethodName) prog_13_method_25_code (2 : Nat) (Option.some Jvm.ClassFile.FieldType.int)) ∈ lw_all := lw_g (lw_at lw_m7 6 rfl) rfl
theorem w1580 : (Jvm.Cond.methodLink "QuotaPeersModel" (273 : Nat) ({ cls := "QuotaPeersModel", name := "octet", desc := "(I)I" } : Jvm.MethodName)) ∈ lw_all := lw_g (lw_at lw_m7 7 rfl) rfl
theorem w1582 : (Jvm.Cond.instanceMethod ({ cls := "QuotaPeersModel", name := "octet", desc := "(I)I" } : Jvm.MethodName)) ∈ lw_all := lw_g (lw_at lw_m7 9 rfl) rfl
theorem w1583 : (Jvm.Cond.code ({ cls := "QuotaPeersModel", name := "octet", desc := "(I)I" } : Jvm.MethodName) prog_13_method_23_code (2 : Nat) (Option.some Jvm.ClassFile.FieldType.int)) ∈ lw_all := lw_g (lw_at lw_m7 10 rfl) rfl
theorem w1584 : (Jvm.Cond.methodLink "QuotaPeersModel" (552 : Nat) ({ cls := "QuotaPeersModel", name := "handle", desc := "(I)V" } : Jvm.MethodName)) ∈ lw_all := lw_g (lw_at lw_m7 11 rfl) rfl
theorem w1586 : (Jvm.Cond.instanceMethod ({ cls := "QuotaPeersModel", name := "handle", desc := "(I)V" } : Jvm.MethodName)) ∈ lw_all := lw_g (lw_at lw_m7 13 rfl) rfl
theorem w1587 : (Jvm.Cond.code ({ cls := "QuotaPeersModel", name := "handle", desc := "(I)V" } : Jvm.MethodName) prog_13_method_72_code (3 : Nat) (Option.none : Option Jvm.ClassFile.FieldType)) ∈ lw_all := lw_g (lw_at lw_m7 14 rfl) rfl
theorem w1588 : (Jvm.Cond.methodLink "QuotaPeersModel" (498 : Nat) ({ cls := "QuotaPeersModel", name := "look", desc := "(I)V" } : Jvm.MethodName)) ∈ lw_all := lw_g (lw_at lw_m7 15 rfl) rfl
theorem w1590 : (Jvm.Cond.instanceMethod ({ cls := "QuotaPeersModel", name := "look", desc := "(I)V" } : Jvm.MethodName)) ∈ lw_all := lw_g (lw_at lw_m7 17 rfl) rfl
theorem w1591 : (Jvm.Cond.code ({ cls := "QuotaPeersModel", name := "look", desc := "(I)V" } : Jvm.MethodName) prog_13_method_35_code (3 : Nat) (Option.none : Option Jvm.ClassFile.FieldType)) ∈ lw_all := lw_g (lw_at lw_m7 18 rfl) rfl
theorem w1592 : (Jvm.Cond.methodLink "QuotaPeersModel" (276 : Nat) ({ cls := "QuotaPeersModel", name := "number4", desc := "(I)I" } : Jvm.MethodName)) ∈ lw_all := lw_g (lw_at lw_m7 19 rfl) rfl
theorem w1594 : (Jvm.Cond.instanceMethod ({ cls := "QuotaPeersModel", name := "number4", desc := "(I)I" } : Jvm.MethodName)) ∈ lw_all := lw_g (lw_at lw_m7 21 rfl) rfl
theorem w1595 : (Jvm.Cond.code ({ cls := "QuotaPeersModel", name := "number4", desc := "(I)I" } : Jvm.MethodName) prog_13_method_24_code (2 : Nat) (Option.some Jvm.ClassFile.FieldType.int)) ∈ lw_all := lw_g (lw_at lw_m7 22 rfl) rfl
theorem w1596 : (Jvm.Cond.methodLink "QuotaPeersModel" (342 : Nat) ({ cls := "QuotaPeersModel", name := "isRequest", desc := "()Z" } : Jvm.MethodName)) ∈ lw_all := lw_g (lw_at lw_m7 23 rfl) rfl
theorem w1598 : (Jvm.Cond.instanceMethod ({ cls := "QuotaPeersModel", name := "isRequest", desc := "()Z" } : Jvm.MethodName)) ∈ lw_all := lw_g (lw_at lw_m7 25 rfl) rfl
theorem w1599 : (Jvm.Cond.code ({ cls := "QuotaPeersModel", name := "isRequest", desc := "()Z" } : Jvm.MethodName) prog_13_method_33_code (1 : Nat) (Option.some Jvm.ClassFile.FieldType.boolean)) ∈ lw_all := lw_g (lw_at lw_m7 26 rfl) rfl
theorem w1600 : (Jvm.Cond.methodLink "QuotaPeersModel" (346 : Nat) ({ cls := "QuotaPeersModel", name := "attributes", desc := "()V" } : Jvm.MethodName)) ∈ lw_all := lw_g (lw_at lw_m7 27 rfl) rfl
theorem w1602 : (Jvm.Cond.instanceMethod ({ cls := "QuotaPeersModel", name := "attributes", desc := "()V" } : Jvm.MethodName)) ∈ lw_all := lw_g (lw_at lw_m7 29 rfl) rfl
theorem w1603 : (Jvm.Cond.code ({ cls := "QuotaPeersModel", name := "attributes", desc := "()V" } : Jvm.MethodName) prog_13_method_32_code (10 : Nat) (Option.none : Option Jvm.ClassFile.FieldType)) ∈ lw_all := lw_g (lw_at lw_m7 30 rfl) rfl
theorem w1604 : (Jvm.Cond.methodLink "QuotaPeersModel" (306 : Nat) ({ cls := "QuotaPeersModel", name := "fault", desc := "(II)V" } : Jvm.MethodName)) ∈ lw_all := lw_g (lw_at lw_m7 31 rfl) rfl
theorem w1606 : (Jvm.Cond.instanceMethod ({ cls := "QuotaPeersModel", name := "fault", desc := "(II)V" } : Jvm.MethodName)) ∈ lw_all := lw_g (lw_at lw_m7 33 rfl) rfl
theorem w1607 : (Jvm.Cond.code ({ cls := "QuotaPeersModel", name := "fault", desc := "(II)V" } : Jvm.MethodName) prog_13_method_29_code (3 : Nat) (Option.none : Option Jvm.ClassFile.FieldType)) ∈ lw_all := lw_g (lw_at lw_m7 34 rfl) rfl
theorem w1608 : (Jvm.Cond.methodLink "QuotaPeersModel" (312 : Nat) ({ cls := "QuotaPeersModel", name := "sort", desc := "(I)I" } : Jvm.MethodName)) ∈ lw_all := lw_g (lw_at lw_m7 35 rfl) rfl
theorem w1609 : (Jvm.Cond.static ({ cls := "QuotaPeersModel", name := "sort", desc := "(I)I" } : Jvm.MethodName)) ∈ lw_all := lw_g (lw_at lw_m7 36 rfl) rfl
theorem w1610 : (Jvm.Cond.code ({ cls := "QuotaPeersModel", name := "sort", desc := "(I)I" } : Jvm.MethodName) prog_13_method_27_code (1 : Nat) (Option.some Jvm.ClassFile.FieldType.int)) ∈ lw_all := lw_g (lw_at lw_m7 37 rfl) rfl
theorem w1611 : (Jvm.Cond.methodLink "QuotaPeersModel" (315 : Nat) ({ cls := "QuotaPeersModel", name := "isSize", desc := "(II)Z" } : Jvm.MethodName)) ∈ lw_all := lw_g (lw_at lw_m7 38 rfl) rfl
theorem w1612 : (Jvm.Cond.static ({ cls := "QuotaPeersModel", name := "isSize", desc := "(II)Z" } : Jvm.MethodName)) ∈ lw_all := lw_g (lw_at lw_m7 39 rfl) rfl
theorem w1613 : (Jvm.Cond.code ({ cls := "QuotaPeersModel", name := "isSize", desc := "(II)Z" } : Jvm.MethodName) prog_13_method_28_code (2 : Nat) (Option.some Jvm.ClassFile.FieldType.boolean)) ∈ lw_all := lw_g (lw_at lw_m7 40 rfl) rfl
theorem w1614 : (Jvm.Cond.methodLink "QuotaPeersModel" (319 : Nat) ({ cls := "QuotaPeersModel", name := "see", desc := "(IIII)V" } : Jvm.MethodName)) ∈ lw_all := lw_g (lw_at lw_m7 41 rfl) rfl
theorem w1616 : (Jvm.Cond.instanceMethod ({ cls := "QuotaPeersModel", name := "see", desc := "(IIII)V" } : Jvm.MethodName)) ∈ lw_all := lw_g (lw_at lw_m7 43 rfl) rfl
theorem w1617 : (Jvm.Cond.code ({ cls := "QuotaPeersModel", name := "see", desc := "(IIII)V" } : Jvm.MethodName) prog_13_method_30_code (6 : Nat) (Option.none : Option Jvm.ClassFile.FieldType)) ∈ lw_all := lw_g (lw_at lw_m7 44 rfl) rfl
theorem w1618 : (Jvm.Cond.methodLink "QuotaPeersModel" (323 : Nat) ({ cls := "QuotaPeersModel", name := "groupOf", desc := "(II)I" } : Jvm.MethodName)) ∈ lw_all := lw_g (lw_at lw_m7 45 rfl) rfl
theorem w1620 : (Jvm.Cond.instanceMethod ({ cls := "QuotaPeersModel", name := "groupOf", desc := "(II)I" } : Jvm.MethodName)) ∈ lw_all := lw_g (lw_at lw_m7 47 rfl) rfl
theorem w1621 : (Jvm.Cond.code ({ cls := "QuotaPeersModel", name := "groupOf", desc := "(II)I" } : Jvm.MethodName) prog_13_method_31_code (4 : Nat) (Option.some Jvm.ClassFile.FieldType.int)) ∈ lw_all := lw_g (lw_at lw_m7 48 rfl) rfl
theorem w1622 : (Jvm.Cond.methodLink "QuotaPeersModel" (349 : Nat) ({ cls := "QuotaPeersModel", name := "lacks", desc := "()V" } : Jvm.MethodName)) ∈ lw_all := lw_g (lw_at lw_m7 49 rfl) rfl
theorem w1624 : (Jvm.Cond.instanceMethod ({ cls := "QuotaPeersModel", name := "lacks", desc := "()V" } : Jvm.MethodName)) ∈ lw_all := lw_g (lw_at lw_m7 51 rfl) rfl
theorem w1625 : (Jvm.Cond.code ({ cls := "QuotaPeersModel", name := "lacks", desc := "()V" } : Jvm.MethodName) prog_13_method_36_code (2 : Nat) (Option.none : Option Jvm.ClassFile.FieldType)) ∈ lw_all := lw_g (lw_at lw_m7 52 rfl) rfl
theorem w1626 : (Jvm.Cond.methodLink "QuotaPeersModel" (352 : Nat) ({ cls := "QuotaPeersModel", name := "must", desc := "(I)I" } : Jvm.MethodName)) ∈ lw_all := lw_g (lw_at lw_m7 53 rfl) rfl
theorem w1628 : (Jvm.Cond.instanceMethod ({ cls := "QuotaPeersModel", name := "must", desc := "(I)I" } : Jvm.MethodName)) ∈ lw_all := lw_g (lw_at lw_m7 55 rfl) rfl
theorem w1629 : (Jvm.Cond.code ({ cls := "QuotaPeersModel", name := "must", desc := "(I)I" } : Jvm.MethodName) prog_13_method_34_code (2 : Nat) (Option.some Jvm.ClassFile.FieldType.int)) ∈ lw_all := lw_g (lw_at lw_m7 56 rfl) rfl
theorem w1630 : (Jvm.Cond.methodLink "QuotaPeersModel" (501 : Nat) ({ cls := "QuotaPeersModel", name := "strange", desc := "(I)V" } : Jvm.MethodName)) ∈ lw_all := lw_g (lw_at lw_m7 57 rfl) rfl
theorem w1632 : (Jvm.Cond.instanceMethod ({ cls := "QuotaPeersModel", name := "strange", desc := "(I)V" } : Jvm.MethodName)) ∈ lw_all := lw_g (lw_at lw_m7 59 rfl) rfl
theorem w1633 : (Jvm.Cond.code ({ cls := "QuotaPeersModel", name := "strange", desc := "(I)V" } : Jvm.MethodName) prog_13_method_73_code (4 : Nat) (Option.none : Option Jvm.ClassFile.FieldType)) ∈ lw_all := lw_g (lw_at lw_m7 60 rfl) rfl
theorem w1634 : (Jvm.Cond.methodLink "QuotaPeersModel" (513 : Nat) ({ cls := "QuotaPeersModel", name := "refuse", desc := "(I)V" } : Jvm.MethodName)) ∈ lw_all := lw_g (lw_at lw_m7 61 rfl) rfl
theorem w1636 : (Jvm.Cond.instanceMethod ({ cls := "QuotaPeersModel", name := "refuse", desc := "(I)V" } : Jvm.MethodName)) ∈ lw_all := lw_g (lw_at lw_m7 63 rfl) rfl
theorem w1637 : (Jvm.Cond.code ({ cls := "QuotaPeersModel", name := "refuse", desc := "(I)V" } : Jvm.MethodName) prog_13_method_39_code (2 : Nat) (Option.none : Option Jvm.ClassFile.FieldType)) ∈ lw_all := lw_g (lw_at lw_m7 64 rfl) rfl
theorem w1638 : (Jvm.Cond.methodLink "QuotaPeersModel" (355 : Nat) ({ cls := "QuotaPeersModel", name := "answer", desc := "(I)V" } : Jvm.MethodName)) ∈ lw_all := lw_g (lw_at lw_m7 65 rfl) rfl
theorem w1640 : (Jvm.Cond.instanceMethod ({ cls := "QuotaPeersModel", name := "answer", desc := "(I)V" } : Jvm.MethodName)) ∈ lw_all := lw_g (lw_at lw_m7 67 rfl) rfl
theorem w1641 : (Jvm.Cond.code ({ cls := "QuotaPeersModel", name := "answer", desc := "(I)V" } : Jvm.MethodName) prog_13_method_38_code (2 : Nat) (Option.none : Option Jvm.ClassFile.FieldType)) ∈ lw_all := lw_g (lw_at lw_m7 68 rfl) rfl
theorem w1642 : (Jvm.Cond.methodLink "QuotaPeersModel" (408 : Nat) ({ cls := "QuotaPeersModel", name := "isText", desc := "(I[BII)Z" } : Jvm.MethodName)) ∈ lw_all := lw_g (lw_at lw_m7 69 rfl) rfl
theorem w1644 : (Jvm.Cond.instanceMethod ({ cls := "QuotaPeersModel", name := "isText", desc := "(I[BII)Z" } : Jvm.MethodName)) ∈ lw_all := lw_g (lw_at lw_m7 71 rfl) rfl
theorem w1645 : (Jvm.Cond.code ({ cls := "QuotaPeersModel", name := "isText", desc := "(I[BII)Z" } : Jvm.MethodName) prog_13_method_37_code (7 : Nat) (Option.some Jvm.ClassFile.FieldType.boolean)) ∈ lw_all := lw_g (lw_at lw_m7 72 rfl) rfl
theorem w1646 : (Jvm.Cond.methodLink "QuotaPeersModel" (516 : Nat) ({ cls := "QuotaPeersModel", name := "answerWith", desc := "(II)V" } : Jvm.MethodName)) ∈ lw_all := lw_g (lw_at lw_m7 73 rfl) rfl
theorem w1648 : (Jvm.Cond.instanceMethod ({ cls := "QuotaPeersModel", name := "answerWith", desc := "(II)V" } : Jvm.MethodName)) ∈ lw_all := lw_g (lw_at lw_m7 75 rfl) rfl
theorem w1649 : (Jvm.Cond.code ({ cls := "QuotaPeersModel", name := "answerWith", desc := "(II)V" } : Jvm.MethodName) prog_13_method_40_code (3 : Nat) (Option.none : Option Jvm.ClassFile.FieldType)) ∈ lw_all := lw_g (lw_at lw_m7 76 rfl) rfl
theorem w1650 : (Jvm.Cond.methodLink "QuotaPeersModel" (504 : Nat) ({ cls := "QuotaPeersModel", name := "ending", desc := "(II)V" } : Jvm.MethodName)) ∈ lw_all := lw_g (lw_at lw_m7 77 rfl) rfl
theorem w1652 : (Jvm.Cond.instanceMethod ({ cls := "QuotaPeersModel", name := "ending", desc := "(II)V" } : Jvm.MethodName)) ∈ lw_all := lw_g (lw_at lw_m7 79 rfl) rfl
theorem w1653 : (Jvm.Cond.code ({ cls := "QuotaPeersModel", name := "ending", desc := "(II)V" } : Jvm.MethodName) prog_13_method_76_code (3 : Nat) (Option.none : Option Jvm.ClassFile.FieldType)) ∈ lw_all := lw_g (lw_at lw_m7 80 rfl) rfl
theorem w1654 : (Jvm.Cond.methodLink "QuotaPeersModel" (522 : Nat) ({ cls := "QuotaPeersModel", name := "isOurs", desc := "(II)Z" } : Jvm.MethodName)) ∈ lw_all := lw_g (lw_at lw_m7 81 rfl) rfl
theorem w1656 : (Jvm.Cond.instanceMethod ({ cls := "QuotaPeersModel", name := "isOurs", desc := "(II)Z" } : Jvm.MethodName)) ∈ lw_all := lw_g (lw_at lw_m7 83 rfl) rfl
theorem w1657 : (Jvm.Cond.code ({ cls := "QuotaPeersModel", name := "isOurs", desc := "(II)Z" } : Jvm.MethodName) prog_13_method_74_code (3 : Nat) (Option.some Jvm.ClassFile.FieldType.boolean)) ∈ lw_all := lw_g (lw_at lw_m7 84 rfl) rfl
theorem w1658 : (Jvm.Cond.methodLink "QuotaPeersModel" (528 : Nat) ({ cls := "QuotaPeersModel", name := "dropAll", desc := "(I)V" } : Jvm.MethodName)) ∈ lw_all := lw_g (lw_at lw_m7 85 rfl) rfl
theorem w1660 : (Jvm.Cond.instanceMethod ({ cls := "QuotaPeersModel", name := "dropAll", desc := "(I)V" } : Jvm.MethodName)) ∈ lw_all := lw_g (lw_at lw_m7 87 rfl) rfl
theorem w1661 : (Jvm.Cond.code ({ cls := "QuotaPeersModel", name := "dropAll", desc := "(I)V" } : Jvm.MethodName) prog_13_method_48_code (2 : Nat) (Option.none : Option Jvm.ClassFile.FieldType)) ∈ lw_all := lw_g (lw_at lw_m7 88 rfl) rfl
theorem w1662 : (Jvm.Cond.methodLink "QuotaPeersModel" (507 : Nat) ({ cls := "QuotaPeersModel", name := "atWork", desc := "(II)V" } : Jvm.MethodName)) ∈ lw_all := lw_g (lw_at lw_m7 89 rfl) rfl
theorem w1664 : (Jvm.Cond.instanceMethod ({ cls := "QuotaPeersModel", name := "atWork", desc := "(II)V" } : Jvm.MethodName)) ∈ lw_all := lw_g (lw_at lw_m7 91 rfl) rfl
theorem w1665 : (Jvm.Cond.code ({ cls := "QuotaPeersModel", name := "atWork", desc := "(II)V" } : Jvm.MethodName) prog_13_method_77_code (4 : Nat) (Option.none : Option Jvm.ClassFile.FieldType)) ∈ lw_all := lw_g (lw_at lw_m7 92 rfl) rfl
theorem w1666 : (Jvm.Cond.methodLink "QuotaPeersModel" (531 : Nat) ({ cls := "QuotaPeersModel", name := "request", desc := "(II)V" } : Jvm.MethodName)) ∈ lw_all := lw_g (lw_at lw_m7 93 rfl) rfl
theorem w1668 : (Jvm.Cond.instanceMethod ({ cls := "QuotaPeersModel", name := "request", desc := "(II)V" } : Jvm.MethodName)) ∈ lw_all := lw_g (lw_at lw_m7 95 rfl) rfl
theorem w1669 : (Jvm.Cond.code ({ cls := "QuotaPeersModel", name := "request", desc := "(II)V" } : Jvm.MethodName) prog_13_method_78_code (3 : Nat) (Option.none : Option Jvm.ClassFile.FieldType)) ∈ lw_all := lw_g (lw_at lw_m7 96 rfl) rfl
theorem w1670 : (Jvm.Cond.methodLink "QuotaPeersModel" (537 : Nat) ({ cls := "QuotaPeersModel", name := "credit", desc := "(II)V" } : Jvm.MethodName)) ∈ lw_all := lw_g (lw_at lw_m7 97 rfl) rfl
theorem w1672 : (Jvm.Cond.instanceMethod ({ cls := "QuotaPeersModel", name := "credit", desc := "(II)V" } : Jvm.MethodName)) ∈ lw_all := lw_g (lw_at lw_m7 99 rfl) rfl
theorem w1673 : (Jvm.Cond.code ({ cls := "QuotaPeersModel", name := "credit", desc := "(II)V" } : Jvm.MethodName) prog_13_method_62_code (3 : Nat) (Option.none : Option Jvm.ClassFile.FieldType)) ∈ lw_all := lw_g (lw_at lw_m7 100 rfl) rfl
theorem w1674 : (Jvm.Cond.methodLink "QuotaPeersModel" (420 : Nat) ({ cls := "QuotaPeersModel", name := "again", desc := "(I)Z" } : Jvm.MethodName)) ∈ lw_all := lw_g (lw_at lw_m7 101 rfl) rfl
theorem w1676 : (Jvm.Cond.instanceMethod ({ cls := "QuotaPeersModel", name := "again", desc := "(I)Z" } : Jvm.MethodName)) ∈ lw_all := lw_g (lw_at lw_m7 103 rfl) rfl
theorem w1677 : (Jvm.Cond.code ({ cls := "QuotaPeersModel", name := "again", desc := "(I)Z" } : Jvm.MethodName) prog_13_method_71_code (4 : Nat) (Option.some Jvm.ClassFile.FieldType.boolean)) ∈ lw_all := lw_g (lw_at lw_m7 104 rfl) rfl
theorem w1678 : (Jvm.Cond.methodLink "QuotaPeersModel" (495 : Nat) ({ cls := "QuotaPeersModel", name := "stale", desc := "()V" } : Jvm.MethodName)) ∈ lw_all := lw_g (lw_at lw_m7 105 rfl) rfl
theorem w1680 : (Jvm.Cond.instanceMethod ({ cls := "QuotaPeersModel", name := "stale", desc := "()V" } : Jvm.MethodName)) ∈ lw_all := lw_g (lw_at lw_m7 107 rfl) rfl
theorem w1681 : (Jvm.Cond.code ({ cls := "QuotaPeersModel", name := "stale", desc := "()V" } : Jvm.MethodName) prog_13_method_68_code (1 : Nat) (Option.none : Option Jvm.ClassFile.FieldType)) ∈ lw_all := lw_g (lw_at lw_m7 108 rfl) rfl
theorem w1682 : (Jvm.Cond.methodLink "QuotaPeersModel" (492 : Nat) ({ cls := "QuotaPeersModel", name := "oldest", desc := "()V" } : Jvm.MethodName)) ∈ lw_all := lw_g (lw_at lw_m7 109 rfl) rfl
theorem w1684 : (Jvm.Cond.instanceMethod ({ cls := "QuotaPeersModel", name := "oldest", desc := "()V" } : Jvm.MethodName)) ∈ lw_all := lw_g (lw_at lw_m7 111 rfl) rfl
theorem w1685 : (Jvm.Cond.code ({ cls := "QuotaPeersModel", name := "oldest", desc := "()V" } : Jvm.MethodName) prog_13_method_69_code (3 : Nat) (Option.none : Option Jvm.ClassFile.FieldType)) ∈ lw_all := lw_g (lw_at lw_m7 112 rfl) rfl
theorem w1686 : (Jvm.Cond.methodLink "QuotaPeersModel" (412 : Nat) ({ cls := "QuotaPeersModel", name := "copyRow", desc := "([BI[BI)V" } : Jvm.MethodName)) ∈ lw_all := lw_g (lw_at lw_m7 113 rfl) rfl
theorem w1688 : (Jvm.Cond.instanceMethod ({ cls := "QuotaPeersModel", name := "copyRow", desc := "([BI[BI)V" } : Jvm.MethodName)) ∈ lw_all := lw_g (lw_at lw_m7 115 rfl) rfl
theorem w1689 : (Jvm.Cond.code ({ cls := "QuotaPeersModel", name := "copyRow", desc := "([BI[BI)V" } : Jvm.MethodName) prog_13_method_57_code (6 : Nat) (Option.none : Option Jvm.ClassFile.FieldType)) ∈ lw_all := lw_g (lw_at lw_m7 116 rfl) rfl
theorem w1690 : (Jvm.Cond.methodLink "QuotaPeersModel" (429 : Nat) ({ cls := "QuotaPeersModel", name := "decide", desc := "(I)I" } : Jvm.MethodName)) ∈ lw_all := lw_g (lw_at lw_m7 117 rfl) rfl
theorem w1692 : (Jvm.Cond.instanceMethod ({ cls := "QuotaPeersModel", name := "decide", desc := "(I)I" } : Jvm.MethodName)) ∈ lw_all := lw_g (lw_at lw_m7 119 rfl) rfl
theorem w1693 : (Jvm.Cond.code ({ cls := "QuotaPeersModel", name := "decide", desc := "(I)I" } : Jvm.MethodName) prog_13_method_63_code (13 : Nat) (Option.some Jvm.ClassFile.FieldType.int)) ∈ lw_all := lw_g (lw_at lw_m7 120 rfl) rfl
theorem w1694 : (Jvm.Cond.constantLong "QuotaPeersModel" (279 : Nat) (4294967295 : Int64)) ∈ lw_all := lw_g (lw_at lw_m7 121 rfl) rfl
theorem w1695 : (Jvm.Cond.methodLink "QuotaPeersModel" (442 : Nat) ({ cls := "QuotaPeersModel", name := "units", desc := "(IJ)J" } : Jvm.MethodName)) ∈ lw_all := lw_g (lw_at lw_m7 122 rfl) rfl
theorem w1697 : (Jvm.Cond.instanceMethod ({ cls := "QuotaPeersModel", name := "units", desc := "(IJ)J" } : Jvm.MethodName)) ∈ lw_all := lw_g (lw_at lw_m7 124 rfl) rfl
theorem w1698 : (Jvm.Cond.code ({ cls := "QuotaPeersModel", name := "units", desc := "(IJ)J" } : Jvm.MethodName) prog_13_method_60_code (4 : Nat) (Option.some Jvm.ClassFile.FieldType.long)) ∈ lw_all := lw_g (lw_at lw_m7 125 rfl) rfl
theorem w1699 : (Jvm.Cond.methodLink "QuotaPeersModel" (416 : Nat) ({ cls := "QuotaPeersModel", name := "number8", desc := "(I)J" } : Jvm.MethodName)) ∈ lw_all := lw_g (lw_at lw_m7 126 rfl) rfl
theorem w1701 : (Jvm.Cond.instanceMethod ({ cls := "QuotaPeersModel", name := "number8", desc := "(I)J" } : Jvm.MethodName)) ∈ lw_all := lw_g (lw_at lw_m7 128 rfl) rfl
theorem w1702 : (Jvm.Cond.code ({ cls := "QuotaPeersModel", name := "number8", desc := "(I)J" } : Jvm.MethodName) prog_13_method_26_code (2 : Nat) (Option.some Jvm.ClassFile.FieldType.long)) ∈ lw_all := lw_g (lw_at lw_m7 129 rfl) rfl
theorem w1703 : (Jvm.Cond.constantLong "QuotaPeersModel" (446 : Nat) (4 : Int64)) ∈ lw_all := lw_g (lw_at lw_m7 130 rfl) rfl
theorem w1704 : (Jvm.Cond.constantLong "QuotaPeersModel" (448 : Nat) (2 : Int64)) ∈ lw_all := lw_g (lw_at lw_m7 131 rfl) rfl
theorem w1705 : (Jvm.Cond.constantLong "QuotaPeersModel" (450 : Nat) (1152921504606846976 : Int64)) ∈ lw_all := lw_g (lw_at lw_m7 132 rfl) rfl
theorem w1706 : (Jvm.Cond.methodLink "QuotaPeersModel" (452 : Nat) ({ cls := "QuotaPeersModel", name := "first", desc := "(I)I" } : Jvm.MethodName)) ∈ lw_all := lw_g (lw_at lw_m7 133 rfl) rfl
theorem w1708 : (Jvm.Cond.instanceMethod ({ cls := "QuotaPeersModel", name := "first", desc := "(I)I" } : Jvm.MethodName)) ∈ lw_all := lw_g (lw_at lw_m7 135 rfl) rfl
theorem w1709 : (Jvm.Cond.code ({ cls := "QuotaPeersModel", name := "first", desc := "(I)I" } : Jvm.MethodName) prog_13_method_66_code (4 : Nat) (Option.some Jvm.ClassFile.FieldType.int)) ∈ lw_all := lw_g (lw_at lw_m7 136 rfl) rfl
theorem w1710 : (Jvm.Cond.methodLink "QuotaPeersModel" (486 : Nat) ({ cls := "QuotaPeersModel", name := "subscriber", desc := "()I" } : Jvm.MethodName)) ∈ lw_all := lw_g (lw_at lw_m7 137 rfl) rfl
theorem w1712 : (Jvm.Cond.instanceMethod ({ cls := "QuotaPeersModel", name := "subscriber", desc := "()I" } : Jvm.MethodName)) ∈ lw_all := lw_g (lw_at lw_m7 139 rfl) rfl
theorem w1713 : (Jvm.Cond.code ({ cls := "QuotaPeersModel", name := "subscriber", desc := "()I" } : Jvm.MethodName) prog_13_method_54_code (5 : Nat) (Option.some Jvm.ClassFile.FieldType.int)) ∈ lw_all := lw_g (lw_at lw_m7 140 rfl) rfl
theorem w1714 : (Jvm.Cond.constantLong "QuotaPeersModel" (399 : Nat) (10 : Int64)) ∈ lw_all := lw_g (lw_at lw_m7 141 rfl) rfl
theorem w1715 : (Jvm.Cond.methodLink "QuotaPeersModel" (401 : Nat) ({ cls := "QuotaPeersModel", name := "accountOf", desc := "(J)I" } : Jvm.MethodName)) ∈ lw_all := lw_g (lw_at lw_m7 142 rfl) rfl
theorem w1717 : (Jvm.Cond.instanceMethod ({ cls := "QuotaPeersModel", name := "accountOf", desc := "(J)I" } : Jvm.MethodName)) ∈ lw_all := lw_g (lw_at lw_m7 144 rfl) rfl
theorem w1718 : (Jvm.Cond.code ({ cls := "QuotaPeersModel", name := "accountOf", desc := "(J)I" } : Jvm.MethodName) prog_13_method_53_code (4 : Nat) (Option.some Jvm.ClassFile.FieldType.int)) ∈ lw_all := lw_g (lw_at lw_m7 145 rfl) rfl
theorem w1719 : (Jvm.Cond.methodLink "QuotaPeersModel" (459 : Nat) ({ cls := "QuotaPeersModel", name := "sessionOf", desc := "()I" } : Jvm.MethodName)) ∈ lw_all := lw_g (lw_at lw_m7 146 rfl) rfl
theorem w1721 : (Jvm.Cond.instanceMethod ({ cls := "QuotaPeersModel", name := "sessionOf", desc := "()I" } : Jvm.MethodName)) ∈ lw_all := lw_g (lw_at lw_m7 148 rfl) rfl
theorem w1722 : (Jvm.Cond.code ({ cls := "QuotaPeersModel", name := "sessionOf", desc := "()I" } : Jvm.MethodName) prog_13_method_55_code (2 : Nat) (Option.some Jvm.ClassFile.FieldType.int)) ∈ lw_all := lw_g (lw_at lw_m7 149 rfl) rfl
theorem w1723 : (Jvm.Cond.methodLink "QuotaPeersModel" (474 : Nat) ({ cls := "QuotaPeersModel", name := "free", desc := "(I)J" } : Jvm.MethodName)) ∈ lw_all := lw_g (lw_at lw_m7 150 rfl) rfl
theorem w1725 : (Jvm.Cond.instanceMethod ({ cls := "QuotaPeersModel", name := "free", desc := "(I)J" } : Jvm.MethodName)) ∈ lw_all := lw_g (lw_at lw_m7 152 rfl) rfl
theorem w1726 : (Jvm.Cond.code ({ cls := "QuotaPeersModel", name := "free", desc := "(I)J" } : Jvm.MethodName) prog_13_method_59_code (2 : Nat) (Option.some Jvm.ClassFile.FieldType.long)) ∈ lw_all := lw_g (lw_at lw_m7 153 rfl) rfl
theorem w1727 : (Jvm.Cond.methodLink "QuotaPeersModel" (480 : Nat) ({ cls := "QuotaPeersModel", name := "copyText", desc := "(I[BI)V" } : Jvm.MethodName)) ∈ lw_all := lw_g (lw_at lw_m7 154 rfl) rfl
theorem w1729 : (Jvm.Cond.instanceMethod ({ cls := "QuotaPeersModel", name := "copyText", desc := "(I[BI)V" } : Jvm.MethodName)) ∈ lw_all := lw_g (lw_at lw_m7 156 rfl) rfl
theorem w1730 : (Jvm.Cond.code ({ cls := "QuotaPeersModel", name := "copyText", desc := "(I[BI)V" } : Jvm.MethodName) prog_13_method_56_code (5 : Nat) (Option.none : Option Jvm.ClassFile.FieldType)) ∈ lw_all := lw_g (lw_at lw_m7 157 rfl) rfl
theorem w1731 : (Jvm.Cond.methodLink "QuotaPeersModel" (471 : Nat) ({ cls := "QuotaPeersModel", name := "of", desc := "(II)V" } : Jvm.MethodName)) ∈ lw_all := lw_g (lw_at lw_m7 158 rfl) rfl
theorem w1733 : (Jvm.Cond.instanceMethod ({ cls := "QuotaPeersModel", name := "of", desc := "(II)V" } : Jvm.MethodName)) ∈ lw_all := lw_g (lw_at lw_m7 160 rfl) rfl
theorem w1734 : (Jvm.Cond.code ({ cls := "QuotaPeersModel", name := "of", desc := "(II)V" } : Jvm.MethodName) prog_13_method_64_code (3 : Nat) (Option.none : Option Jvm.ClassFile.FieldType)) ∈ lw_all := lw_g (lw_at lw_m7 161 rfl) rfl
theorem w1735 : (Jvm.Cond.methodLink "QuotaPeersModel" (462 : Nat) ({ cls := "QuotaPeersModel", name := "theirCount", desc := "()J" } : Jvm.MethodName)) ∈ lw_all := lw_g (lw_at lw_m7 162 rfl) rfl
theorem w1737 : (Jvm.Cond.instanceMethod ({ cls := "QuotaPeersModel", name := "theirCount", desc := "()J" } : Jvm.MethodName)) ∈ lw_all := lw_g (lw_at lw_m7 164 rfl) rfl
theorem w1738 : (Jvm.Cond.code ({ cls := "QuotaPeersModel", name := "theirCount", desc := "()J" } : Jvm.MethodName) prog_13_method_61_code (1 : Nat) (Option.some Jvm.ClassFile.FieldType.long)) ∈ lw_all := lw_g (lw_at lw_m7 165 rfl) rfl
theorem w1739 : (Jvm.Cond.methodLink "QuotaPeersModel" (477 : Nat) ({ cls := "QuotaPeersModel", name := "grant", desc := "(I)V" } : Jvm.MethodName)) ∈ lw_all := lw_g (lw_at lw_m7 166 rfl) rfl
theorem w1741 : (Jvm.Cond.instanceMethod ({ cls := "QuotaPeersModel", name := "grant", desc := "(I)V" } : Jvm.MethodName)) ∈ lw_all := lw_g (lw_at lw_m7 168 rfl) rfl
theorem w1742 : (Jvm.Cond.code ({ cls := "QuotaPeersModel", name := "grant", desc := "(I)V" } : Jvm.MethodName) prog_13_method_65_code (5 : Nat) (Option.none : Option Jvm.ClassFile.FieldType)) ∈ lw_all := lw_g (lw_at lw_m7 169 rfl) rfl
theorem w1743 : (Jvm.Cond.constantLong "QuotaPeersModel" (484 : Nat) (1000 : Int64)) ∈ lw_all := lw_g (lw_at lw_m7 170 rfl) rfl
theorem w1744 : (Jvm.Cond.methodLink "QuotaPeersModel" (455 : Nat) ({ cls := "QuotaPeersModel", name := "event", desc := "(IJ)I" } : Jvm.MethodName)) ∈ lw_all := lw_g (lw_at lw_m7 171 rfl) rfl
theorem w1746 : (Jvm.Cond.instanceMethod ({ cls := "QuotaPeersModel", name := "event", desc := "(IJ)I" } : Jvm.MethodName)) ∈ lw_all := lw_g (lw_at lw_m7 173 rfl) rfl
theorem w1747 : (Jvm.Cond.code ({ cls := "QuotaPeersModel", name := "event", desc := "(IJ)I" } : Jvm.MethodName) prog_13_method_67_code (5 : Nat) (Option.some Jvm.ClassFile.FieldType.int)) ∈ lw_all := lw_g (lw_at lw_m7 174 rfl) rfl
theorem w1748 : (Jvm.Cond.constantLong "QuotaPeersModel" (466 : Nat) (3 : Int64)) ∈ lw_all := lw_g (lw_at lw_m7 175 rfl) rfl
theorem w1749 : (Jvm.Cond.methodLink "QuotaPeersModel" (468 : Nat) ({ cls := "QuotaPeersModel", name := "forget", desc := "(I)V" } : Jvm.MethodName)) ∈ lw_all := lw_g (lw_at lw_m7 176 rfl) rfl
theorem w1751 : (Jvm.Cond.instanceMethod ({ cls := "QuotaPeersModel", name := "forget", desc := "(I)V" } : Jvm.MethodName)) ∈ lw_all := lw_g (lw_at lw_m7 178 rfl) rfl
theorem w1752 : (Jvm.Cond.code ({ cls := "QuotaPeersModel", name := "forget", desc := "(I)V" } : Jvm.MethodName) prog_13_method_58_code (3 : Nat) (Option.none : Option Jvm.ClassFile.FieldType)) ∈ lw_all := lw_g (lw_at lw_m7 179 rfl) rfl
theorem w1753 : (Jvm.Cond.methodLink "QuotaPeersModel" (439 : Nat) ({ cls := "QuotaPeersModel", name := "keep", desc := "()V" } : Jvm.MethodName)) ∈ lw_all := lw_g (lw_at lw_m7 180 rfl) rfl
theorem w1755 : (Jvm.Cond.instanceMethod ({ cls := "QuotaPeersModel", name := "keep", desc := "()V" } : Jvm.MethodName)) ∈ lw_all := lw_g (lw_at lw_m7 182 rfl) rfl
theorem w1756 : (Jvm.Cond.code ({ cls := "QuotaPeersModel", name := "keep", desc := "()V" } : Jvm.MethodName) prog_13_method_70_code (2 : Nat) (Option.none : Option Jvm.ClassFile.FieldType)) ∈ lw_all := lw_g (lw_at lw_m7 183 rfl) rfl
theorem w1757 : (Jvm.Cond.methodLink "QuotaPeersModel" (534 : Nat) ({ cls := "QuotaPeersModel", name := "theirAnswer", desc := "(II)V" } : Jvm.MethodName)) ∈ lw_all := lw_g (lw_at lw_m7 184 rfl) rfl
theorem w1759 : (Jvm.Cond.instanceMethod ({ cls := "QuotaPeersModel", name := "theirAnswer", desc := "(II)V" } : Jvm.MethodName)) ∈ lw_all := lw_g (lw_at lw_m7 186 rfl) rfl
theorem w1760 : (Jvm.Cond.code ({ cls := "QuotaPeersModel", name := "theirAnswer", desc := "(II)V" } : Jvm.MethodName) prog_13_method_79_code (6 : Nat) (Option.none : Option Jvm.ClassFile.FieldType)) ∈ lw_all := lw_g (lw_at lw_m7 187 rfl) rfl
theorem w1761 : (Jvm.Cond.methodLink "QuotaPeersModel" (510 : Nat) ({ cls := "QuotaPeersModel", name := "opening", desc := "(II)V" } : Jvm.MethodName)) ∈ lw_all := lw_g (lw_at lw_m7 188 rfl) rfl
theorem w1763 : (Jvm.Cond.instanceMethod ({ cls := "QuotaPeersModel", name := "opening", desc := "(II)V" } : Jvm.MethodName)) ∈ lw_all := lw_g (lw_at lw_m7 190 rfl) rfl
theorem w1764 : (Jvm.Cond.code ({ cls := "QuotaPeersModel", name := "opening", desc := "(II)V" } : Jvm.MethodName) prog_13_method_75_code (4 : Nat) (Option.none : Option Jvm.ClassFile.FieldType)) ∈ lw_all := lw_g (lw_at lw_m7 191 rfl) rfl
theorem w1765 : (Jvm.Cond.methodLink "QuotaPeersLaw" (51 : Nat) ({ cls := "QuotaPeersModel", name := "gone", desc := "(I)I" } : Jvm.MethodName)) ∈ lw_all := lw_g (lw_at lw_m7 192 rfl) rfl
theorem w1766 : (Jvm.Cond.instanceMethod ({ cls := "QuotaPeersModel", name := "gone", desc := "(I)I" } : Jvm.MethodName)) ∈ lw_all := lw_g (lw_at lw_m7 193 rfl) rfl
theorem w1767 : (Jvm.Cond.selects "QuotaPeersModel" ({ cls := "QuotaPeersModel", name := "gone", desc := "(I)I" } : Jvm.MethodName) ({ cls := "QuotaPeersModel", name := "gone", desc := "(I)I" } : Jvm.MethodName)) ∈ lw_all := lw_g (lw_at lw_m7 194 rfl) rfl
theorem w1768 : (Jvm.Cond.code ({ cls := "QuotaPeersModel", name := "gone", desc := "(I)I" } : Jvm.MethodName) prog_13_method_86_code (2 : Nat) (Option.some Jvm.ClassFile.FieldType.int)) ∈ lw_all := lw_g (lw_at lw_m7 195 rfl) rfl
theorem w1769 : (Jvm.Cond.methodLink "QuotaPeersLaw" (56 : Nat) ({ cls := "QuotaPeersModel", name := "stop", desc := "(II)I" } : Jvm.MethodName)) ∈ lw_all := lw_g (lw_at lw_m7 196 rfl) rfl
theorem w1770 : (Jvm.Cond.instanceMethod ({ cls := "QuotaPeersModel", name := "stop", desc := "(II)I" } : Jvm.MethodName)) ∈ lw_all := lw_g (lw_at lw_m7 197 rfl) rfl
theorem w1771 : (Jvm.Cond.selects "QuotaPeersModel" ({ cls := "QuotaPeersModel", name := "stop", desc := "(II)I" } : Jvm.MethodName) ({ cls := "QuotaPeersModel", name := "stop", desc := "(II)I" } : Jvm.MethodName)) ∈ lw_all := lw_g (lw_at lw_m7 198 rfl) rfl
theorem w1772 : (Jvm.Cond.code ({ cls := "QuotaPeersModel", name := "stop", desc := "(II)I" } : Jvm.MethodName) prog_13_method_87_code (4 : Nat) (Option.some Jvm.ClassFile.FieldType.int)) ∈ lw_all := lw_g (lw_at lw_m7 199 rfl) rfl
theorem w1773 : (Jvm.Cond.methodLink "QuotaPeersModel" (555 : Nat) ({ cls := "QuotaPeersModel", name := "sendEnding", desc := "(II)V" } : Jvm.MethodName)) ∈ lw_all := lw_g (lw_at lw_m7 200 rfl) rfl
theorem w1775 : (Jvm.Cond.instanceMethod ({ cls := "QuotaPeersModel", name := "sendEnding", desc := "(II)V" } : Jvm.MethodName)) ∈ lw_all := lw_g (lw_at lw_m7 202 rfl) rfl
theorem w1776 : (Jvm.Cond.code ({ cls := "QuotaPeersModel", name := "sendEnding", desc := "(II)V" } : Jvm.MethodName) prog_13_method_22_code (3 : Nat) (Option.none : Option Jvm.ClassFile.FieldType)) ∈ lw_all := lw_g (lw_at lw_m7 203 rfl) rfl
theorem w1777 : (Jvm.Cond.methodLink "QuotaPeersLaw" (60 : Nat) ({ cls := "QuotaPeersModel", name := "tick", desc := "(I)I" } : Jvm.MethodName)) ∈ lw_all := lw_g (lw_at lw_m7 204 rfl) rfl
theorem w1778 : (Jvm.Cond.instanceMethod ({ cls := "QuotaPeersModel", name := "tick", desc := "(I)I" } : Jvm.MethodName)) ∈ lw_all := lw_g (lw_at lw_m7 205 rfl) rfl
theorem w1779 : (Jvm.Cond.selects "QuotaPeersModel" ({ cls := "QuotaPeersModel", name := "tick", desc := "(I)I" } : Jvm.MethodName) ({ cls := "QuotaPeersModel", name := "tick", desc := "(I)I" } : Jvm.MethodName)) ∈ lw_all := lw_g (lw_at lw_m7 206 rfl) rfl
theorem w1780 : (Jvm.Cond.code ({ cls := "QuotaPeersModel", name := "tick", desc := "(I)I" } : Jvm.MethodName) prog_13_method_89_code (5 : Nat) (Option.some Jvm.ClassFile.FieldType.int)) ∈ lw_all := lw_g (lw_at lw_m7 207 rfl) rfl
theorem w1781 : (Jvm.Cond.methodLink "QuotaPeersModel" (558 : Nat) ({ cls := "QuotaPeersModel", name := "ring", desc := "(I)V" } : Jvm.MethodName)) ∈ lw_all := lw_g (lw_at lw_m7 208 rfl) rfl
theorem w1783 : (Jvm.Cond.instanceMethod ({ cls := "QuotaPeersModel", name := "ring", desc := "(I)V" } : Jvm.MethodName)) ∈ lw_all := lw_g (lw_at lw_m7 210 rfl) rfl
theorem w1784 : (Jvm.Cond.code ({ cls := "QuotaPeersModel", name := "ring", desc := "(I)V" } : Jvm.MethodName) prog_13_method_88_code (3 : Nat) (Option.none : Option Jvm.ClassFile.FieldType)) ∈ lw_all := lw_g (lw_at lw_m7 211 rfl) rfl
theorem w1785 : (Jvm.Cond.methodLink "QuotaPeersLaw" (64 : Nat) ({ cls := "QuotaPeersModel", name := "clock", desc := "()I" } : Jvm.MethodName)) ∈ lw_all := lw_g (lw_at lw_m7 212 rfl) rfl
theorem w1786 : (Jvm.Cond.instanceMethod ({ cls := "QuotaPeersModel", name := "clock", desc := "()I" } : Jvm.MethodName)) ∈ lw_all := lw_g (lw_at lw_m7 213 rfl) rfl
theorem w1787 : (Jvm.Cond.selects "QuotaPeersModel" ({ cls := "QuotaPeersModel", name := "clock", desc := "()I" } : Jvm.MethodName) ({ cls := "QuotaPeersModel", name := "clock", desc := "()I" } : Jvm.MethodName)) ∈ lw_all := lw_g (lw_at lw_m7 214 rfl) rfl
theorem w1788 : (Jvm.Cond.code ({ cls := "QuotaPeersModel", name := "clock", desc := "()I" } : Jvm.MethodName) prog_13_method_90_code (1 : Nat) (Option.some Jvm.ClassFile.FieldType.int)) ∈ lw_all := lw_g (lw_at lw_m7 215 rfl) rfl
theorem w1789 : (Jvm.Cond.methodLink "QuotaPeersLaw" (68 : Nat) ({ cls := "QuotaPeersModel", name := "take", desc := "(I)I" } : Jvm.MethodName)) ∈ lw_all := lw_g (lw_at lw_m7 216 rfl) rfl
theorem w1790 : (Jvm.Cond.instanceMethod ({ cls := "QuotaPeersModel", name := "take", desc := "(I)I" } : Jvm.MethodName)) ∈ lw_all := lw_g (lw_at lw_m7 217 rfl) rfl
theorem w1791 : (Jvm.Cond.selects "QuotaPeersModel" ({ cls := "QuotaPeersModel", name := "take", desc := "(I)I" } : Jvm.MethodName) ({ cls := "QuotaPeersModel", name := "take", desc := "(I)I" } : Jvm.MethodName)) ∈ lw_all := lw_g (lw_at lw_m7 218 rfl) rfl
theorem w1792 : (Jvm.Cond.code ({ cls := "QuotaPeersModel", name := "take", desc := "(I)I" } : Jvm.MethodName) prog_13_method_91_code (3 : Nat) (Option.some Jvm.ClassFile.FieldType.int)) ∈ lw_all := lw_g (lw_at lw_m7 219 rfl) rfl
theorem w1793 : (Jvm.Cond.methodLink "QuotaPeersLaw" (72 : Nat) ({ cls := "QuotaPeersModel", name := "waiting", desc := "(I)I" } : Jvm.MethodName)) ∈ lw_all := lw_g (lw_at lw_m7 220 rfl) rfl
theorem w1794 : (Jvm.Cond.instanceMethod ({ cls := "QuotaPeersModel", name := "waiting", desc := "(I)I" } : Jvm.MethodName)) ∈ lw_all := lw_g (lw_at lw_m7 221 rfl) rfl
theorem w1795 : (Jvm.Cond.selects "QuotaPeersModel" ({ cls := "QuotaPeersModel", name := "waiting", desc := "(I)I" } : Jvm.MethodName) ({ cls := "QuotaPeersModel", name := "waiting", desc := "(I)I" } : Jvm.MethodName)) ∈ lw_all := lw_g (lw_at lw_m7 222 rfl) rfl
theorem w1796 : (Jvm.Cond.code ({ cls := "QuotaPeersModel", name := "waiting", desc := "(I)I" } : Jvm.MethodName) prog_13_method_92_code (2 : Nat) (Option.some Jvm.ClassFile.FieldType.int)) ∈ lw_all := lw_g (lw_at lw_m7 223 rfl) rfl
theorem w1797 : (Jvm.Cond.methodLink "QuotaPeersLaw" (76 : Nat) ({ cls := "QuotaPeersModel", name := "connection", desc := "(II)I" } : Jvm.MethodName)) ∈ lw_all := lw_g (lw_at lw_m7 224 rfl) rfl
theorem w1798 : (Jvm.Cond.instanceMethod ({ cls := "QuotaPeersModel", name := "connection", desc := "(II)I" } : Jvm.MethodName)) ∈ lw_all := lw_g (lw_at lw_m7 225 rfl) rfl
theorem w1799 : (Jvm.Cond.selects "QuotaPeersModel" ({ cls := "QuotaPeersModel", name := "connection", desc := "(II)I" } : Jvm.MethodName) ({ cls := "QuotaPeersModel", name := "connection", desc := "(II)I" } : Jvm.MethodName)) ∈ lw_all := lw_g (lw_at lw_m7 226 rfl) rfl
theorem w1800 : (Jvm.Cond.code ({ cls := "QuotaPeersModel", name := "connection", desc := "(II)I" } : Jvm.MethodName) prog_13_method_93_code (3 : Nat) (Option.some Jvm.ClassFile.FieldType.int)) ∈ lw_all := lw_g (lw_at lw_m7 227 rfl) rfl
theorem w1801 : (Jvm.Cond.methodLink "QuotaPeersLaw" (80 : Nat) ({ cls := "QuotaPeersModel", name := "state", desc := "(II)I" } : Jvm.MethodName)) ∈ lw_all := lw_g (lw_at lw_m7 228 rfl) rfl
theorem w1802 : (Jvm.Cond.instanceMethod ({ cls := "QuotaPeersModel", name := "state", desc := "(II)I" } : Jvm.MethodName)) ∈ lw_all := lw_g (lw_at lw_m7 229 rfl) rfl
theorem w1803 : (Jvm.Cond.selects "QuotaPeersModel" ({ cls := "QuotaPeersModel", name := "state", desc := "(II)I" } : Jvm.MethodName) ({ cls := "QuotaPeersModel", name := "state", desc := "(II)I" } : Jvm.MethodName)) ∈ lw_all := lw_g (lw_at lw_m7 230 rfl) rfl
theorem w1804 : (Jvm.Cond.code ({ cls := "QuotaPeersModel", name := "state", desc := "(II)I" } : Jvm.MethodName) prog_13_method_94_code (4 : Nat) (Option.some Jvm.ClassFile.FieldType.int)) ∈ lw_all := lw_g (lw_at lw_m7 231 rfl) rfl
theorem w1805 : (Jvm.Cond.methodLink "QuotaPeersLaw" (85 : Nat) ({ cls := "QuotaPeersModel", name := "account", desc := "(JJ)I" } : Jvm.MethodName)) ∈ lw_all := lw_g (lw_at lw_m7 232 rfl) rfl
theorem w1806 : (Jvm.Cond.instanceMethod ({ cls := "QuotaPeersModel", name := "account", desc := "(JJ)I" } : Jvm.MethodName)) ∈ lw_all := lw_g (lw_at lw_m7 233 rfl) rfl
theorem w1807 : (Jvm.Cond.selects "QuotaPeersModel" ({ cls := "QuotaPeersModel", name := "account", desc := "(JJ)I" } : Jvm.MethodName) ({ cls := "QuotaPeersModel", name := "account", desc := "(JJ)I" } : Jvm.MethodName)) ∈ lw_all := lw_g (lw_at lw_m7 234 rfl) rfl
theorem w1808 : (Jvm.Cond.code ({ cls := "QuotaPeersModel", name := "account", desc := "(JJ)I" } : Jvm.MethodName) prog_13_method_95_code (5 : Nat) (Option.some Jvm.ClassFile.FieldType.int)) ∈ lw_all := lw_g (lw_at lw_m7 235 rfl) rfl
theorem w1809 : (Jvm.Cond.constantLong "QuotaPeersModel" (561 : Nat) (99999999999999999 : Int64)) ∈ lw_all := lw_g (lw_at lw_m7 236 rfl) rfl
theorem w1810 : (Jvm.Cond.methodLink "QuotaPeersLaw" (90 : Nat) ({ cls := "QuotaPeersModel", name := "balance", desc := "(JI)J" } : Jvm.MethodName)) ∈ lw_all := lw_g (lw_at lw_m7 237 rfl) rfl
theorem w1811 : (Jvm.Cond.instanceMethod ({ cls := "QuotaPeersModel", name := "balance", desc := "(JI)J" } : Jvm.MethodName)) ∈ lw_all := lw_g (lw_at lw_m7 238 rfl) rfl
theorem w1812 : (Jvm.Cond.selects "QuotaPeersModel" ({ cls := "QuotaPeersModel", name := "balance", desc := "(JI)J" } : Jvm.MethodName) ({ cls := "QuotaPeersModel", name := "balance", desc := "(JI)J" } : Jvm.MethodName)) ∈ lw_all := lw_g (lw_at lw_m7 239 rfl) rfl
theorem w1813 : (Jvm.Cond.code ({ cls := "QuotaPeersModel", name := "balance", desc := "(JI)J" } : Jvm.MethodName) prog_13_method_96_code (5 : Nat) (Option.some Jvm.ClassFile.FieldType.long)) ∈ lw_all := lw_g (lw_at lw_m8 0 rfl) rfl
theorem w1814 : (Jvm.Cond.constantLong "QuotaPeersModel" (563 : Nat) (-1 : Int64)) ∈ lw_all := lw_g (lw_at lw_m8 1 rfl) rfl
theorem w1815 : (Jvm.Cond.constantLong "QuotaPeersModel" (565 : Nat) (-2 : Int64)) ∈ lw_all := lw_g (lw_at lw_m8 2 rfl) rfl
theorem w1816 : (Jvm.Cond.methodLink "QuotaPeersLaw" (94 : Nat) ({ cls := "QuotaPeersModel", name := "sessions", desc := "()I" } : Jvm.MethodName)) ∈ lw_all := lw_g (lw_at lw_m8 3 rfl) rfl
theorem w1817 : (Jvm.Cond.instanceMethod ({ cls := "QuotaPeersModel", name := "sessions", desc := "()I" } : Jvm.MethodName)) ∈ lw_all := lw_g (lw_at lw_m8 4 rfl) rfl
theorem w1818 : (Jvm.Cond.selects "QuotaPeersModel" ({ cls := "QuotaPeersModel", name := "sessions", desc := "()I" } : Jvm.MethodName) ({ cls := "QuotaPeersModel", name := "sessions", desc := "()I" } : Jvm.MethodName)) ∈ lw_all := lw_g (lw_at lw_m8 5 rfl) rfl
theorem w1819 : (Jvm.Cond.code ({ cls := "QuotaPeersModel", name := "sessions", desc := "()I" } : Jvm.MethodName) prog_13_method_97_code (1 : Nat) (Option.some Jvm.ClassFile.FieldType.int)) ∈ lw_all := lw_g (lw_at lw_m8 6 rfl) rfl
theorem w1820 : (Jvm.Cond.methodLink "QuotaPeersLaw" (98 : Nat) ({ cls := "QuotaPeersModel", name := "session", desc := "(II)I" } : Jvm.MethodName)) ∈ lw_all := lw_g (lw_at lw_m8 7 rfl) rfl
theorem w1821 : (Jvm.Cond.instanceMethod ({ cls := "QuotaPeersModel", name := "session", desc := "(II)I" } : Jvm.MethodName)) ∈ lw_all := lw_g (lw_at lw_m8 8 rfl) rfl
theorem w1822 : (Jvm.Cond.selects "QuotaPeersModel" ({ cls := "QuotaPeersModel", name := "session", desc := "(II)I" } : Jvm.MethodName) ({ cls := "QuotaPeersModel", name := "session", desc := "(II)I" } : Jvm.MethodName)) ∈ lw_all := lw_g (lw_at lw_m8 9 rfl) rfl
theorem w1823 : (Jvm.Cond.code ({ cls := "QuotaPeersModel", name := "session", desc := "(II)I" } : Jvm.MethodName) prog_13_method_98_code (3 : Nat) (Option.some Jvm.ClassFile.FieldType.int)) ∈ lw_all := lw_g (lw_at lw_m8 10 rfl) rfl
theorem w1824 : (Jvm.Cond.methodLink "QuotaPeersLaw" (103 : Nat) ({ cls := "QuotaPeersModel", name := "granted", desc := "(I)J" } : Jvm.MethodName)) ∈ lw_all := lw_g (lw_at lw_m8 11 rfl) rfl
theorem w1825 : (Jvm.Cond.instanceMethod ({ cls := "QuotaPeersModel", name := "granted", desc := "(I)J" } : Jvm.MethodName)) ∈ lw_all := lw_g (lw_at lw_m8 12 rfl) rfl
theorem w1826 : (Jvm.Cond.selects "QuotaPeersModel" ({ cls := "QuotaPeersModel", name := "granted", desc := "(I)J" } : Jvm.MethodName) ({ cls := "QuotaPeersModel", name := "granted", desc := "(I)J" } : Jvm.MethodName)) ∈ lw_all := lw_g (lw_at lw_m8 13 rfl) rfl
theorem w1827 : (Jvm.Cond.code ({ cls := "QuotaPeersModel", name := "granted", desc := "(I)J" } : Jvm.MethodName) prog_13_method_99_code (2 : Nat) (Option.some Jvm.ClassFile.FieldType.long)) ∈ lw_all := lw_g (lw_at lw_m8 14 rfl) rfl
theorem w1828 : (Jvm.Cond.methodLink "QuotaPeersLaw" (107 : Nat) ({ cls := "QuotaPeersModel", name := "ask", desc := "(I)I" } : Jvm.MethodName)) ∈ lw_all := lw_g (lw_at lw_m8 15 rfl) rfl
theorem w1829 : (Jvm.Cond.instanceMethod ({ cls := "QuotaPeersModel", name := "ask", desc := "(I)I" } : Jvm.MethodName)) ∈ lw_all := lw_g (lw_at lw_m8 16 rfl) rfl
theorem w1830 : (Jvm.Cond.selects "QuotaPeersModel" ({ cls := "QuotaPeersModel", name := "ask", desc := "(I)I" } : Jvm.MethodName) ({ cls := "QuotaPeersModel", name := "ask", desc := "(I)I" } : Jvm.MethodName)) ∈ lw_all := lw_g (lw_at lw_m8 17 rfl) rfl
theorem w1831 : (Jvm.Cond.code ({ cls := "QuotaPeersModel", name := "ask", desc := "(I)I" } : Jvm.MethodName) prog_13_method_100_code (3 : Nat) (Option.some Jvm.ClassFile.FieldType.int)) ∈ lw_all := lw_g (lw_at lw_m8 18 rfl) rfl
theorem w1832 : (Jvm.Cond.methodLink "QuotaPeersLaw" (111 : Nat) ({ cls := "QuotaPeersModel", name := "asked", desc := "(II)I" } : Jvm.MethodName)) ∈ lw_all := lw_g (lw_at lw_m8 19 rfl) rfl
theorem w1833 : (Jvm.Cond.instanceMethod ({ cls := "QuotaPeersModel", name := "asked", desc := "(II)I" } : Jvm.MethodName)) ∈ lw_all := lw_g (lw_at lw_m8 20 rfl) rfl
theorem w1834 : (Jvm.Cond.selects "QuotaPeersModel" ({ cls := "QuotaPeersModel", name := "asked", desc := "(II)I" } : Jvm.MethodName) ({ cls := "QuotaPeersModel", name := "asked", desc := "(II)I" } : Jvm.MethodName)) ∈ lw_all := lw_g (lw_at lw_m8 21 rfl) rfl
theorem w1835 : (Jvm.Cond.code ({ cls := "QuotaPeersModel", name := "asked", desc := "(II)I" } : Jvm.MethodName) prog_13_method_101_code (3 : Nat) (Option.some Jvm.ClassFile.FieldType.int)) ∈ lw_all := lw_g (lw_at lw_m8 22 rfl) rfl
theorem w1836 : (Jvm.Cond.methodLink "QuotaPeersLaw" (115 : Nat) ({ cls := "QuotaPeersModel", name := "kept", desc := "()I" } : Jvm.MethodName)) ∈ lw_all := lw_g (lw_at lw_m8 23 rfl) rfl
theorem w1837 : (Jvm.Cond.instanceMethod ({ cls := "QuotaPeersModel", name := "kept", desc := "()I" } : Jvm.MethodName)) ∈ lw_all := lw_g (lw_at lw_m8 24 rfl) rfl
theorem w1838 : (Jvm.Cond.selects "QuotaPeersModel" ({ cls := "QuotaPeersModel", name := "kept", desc := "()I" } : Jvm.MethodName) ({ cls := "QuotaPeersModel", name := "kept", desc := "()I" } : Jvm.MethodName)) ∈ lw_all := lw_g (lw_at lw_m8 25 rfl) rfl
theorem w1839 : (Jvm.Cond.code ({ cls := "QuotaPeersModel", name := "kept", desc := "()I" } : Jvm.MethodName) prog_13_method_102_code (1 : Nat) (Option.some Jvm.ClassFile.FieldType.int)) ∈ lw_all := lw_g (lw_at lw_m8 26 rfl) rfl
theorem w1840 : (Jvm.Cond.methodLink "QuotaPeersLaw" (119 : Nat) ({ cls := "QuotaPeersModel", name := "lost", desc := "()I" } : Jvm.MethodName)) ∈ lw_all := lw_g (lw_at lw_m8 27 rfl) rfl
theorem w1841 : (Jvm.Cond.instanceMethod ({ cls := "QuotaPeersModel", name := "lost", desc := "()I" } : Jvm.MethodName)) ∈ lw_all := lw_g (lw_at lw_m8 28 rfl) rfl
theorem w1842 : (Jvm.Cond.selects "QuotaPeersModel" ({ cls := "QuotaPeersModel", name := "lost", desc := "()I" } : Jvm.MethodName) ({ cls := "QuotaPeersModel", name := "lost", desc := "()I" } : Jvm.MethodName)) ∈ lw_all := lw_g (lw_at lw_m8 29 rfl) rfl
theorem w1843 : (Jvm.Cond.code ({ cls := "QuotaPeersModel", name := "lost", desc := "()I" } : Jvm.MethodName) prog_13_method_103_code (1 : Nat) (Option.some Jvm.ClassFile.FieldType.int)) ∈ lw_all := lw_g (lw_at lw_m8 30 rfl) rfl
theorem w1844 : (Jvm.Cond.constantLong "QuotaPeersLaw" (41 : Nat) (4294967295 : Int64)) ∈ lw_all := lw_g (lw_at lw_m8 31 rfl) rfl
theorem w1845 : (Jvm.Cond.initialized "java/lang/Object") ∈ lw_all := lw_g (lw_at lw_m8 32 rfl) rfl
theorem w1846 : (Jvm.Cond.fieldLinkNest "QuotaPeers$Message" (97 : Nat) "QuotaPeers$Command" "code" "I" "QuotaPeers") ∈ lw_tbl := lw_at lw_m8 33 rfl
theorem w1847 : (Jvm.Cond.fieldLinkNest "QuotaPeers$Message" (106 : Nat) "QuotaPeers$Command" "application" "I" "QuotaPeers") ∈ lw_tbl := lw_at lw_m8 34 rfl
theorem w1848 : (Jvm.Cond.fieldLinkNest "QuotaPeers$Message" (107 : Nat) "QuotaPeers$Command" "wants" "[I" "QuotaPeers") ∈ lw_tbl := lw_at lw_m8 35 rfl
theorem w1849 : (Jvm.Cond.laysStatic "QuotaPeers$Command" "OPENS" "LQuotaPeers$Command;") ∈ lw_tbl := lw_at lw_m8 36 rfl
theorem w1850 : (Jvm.Cond.laysStatic "QuotaPeers$Command" "WATCHES" "LQuotaPeers$Command;") ∈ lw_tbl := lw_at lw_m8 37 rfl
theorem w1851 : (Jvm.Cond.laysStatic "QuotaPeers$Command" "ENDS" "LQuotaPeers$Command;") ∈ lw_tbl := lw_at lw_m8 38 rfl
theorem w1852 : (Jvm.Cond.laysStatic "QuotaPeers$Command" "CREDITS" "LQuotaPeers$Command;") ∈ lw_tbl := lw_at lw_m8 39 rfl
def zT0 : u_T := fun k => match k with
  | 0 => ("QuotaPeers", "at", "LQuotaPeers$Text;", true)
  | 1 => ("QuotaPeers", "host", "LQuotaPeers$Text;", true)
  | 2 => ("QuotaPeers", "realm", "LQuotaPeers$Text;", true)
  | 3 => ("QuotaPeers", "product", "LQuotaPeers$Text;", true)
  | 4 => ("QuotaPeers", "page", "LQuotaPeers$Page;", true)
  | 5 => ("QuotaPeers", "message", "LQuotaPeers$Message;", true)
  | 6 => ("QuotaPeers", "links", "[LQuotaPeers$Link;", true)
  | 7 => ("QuotaPeers", "peers", "[LQuotaPeers$Peer;", true)
  | 8 => ("QuotaPeers", "peerCount", "I", false)
  | 9 => ("QuotaPeers", "accounts", "[LQuotaPeers$Account;", true)
  | 10 => ("QuotaPeers", "accountCount", "I", false)
  | 11 => ("QuotaPeers", "sessions", "[LQuotaPeers$Session;", true)
  | 12 => ("QuotaPeers", "sessionCount", "I", false)
  | 13 => ("QuotaPeers", "asks", "[LQuotaPeers$Question;", true)
  | 14 => ("QuotaPeers", "askCount", "I", false)
  | 15 => ("QuotaPeers", "keeps", "[LQuotaPeers$Answer;", true)
  | 16 => ("QuotaPeers", "keepCount", "I", false)
  | 17 => ("QuotaPeers", "now", "I", false)
  | 18 => ("QuotaPeers", "hops", "I", false)
  | 19 => ("QuotaPeers", "lost", "I", false)
  | 20 => ("QuotaPeers", "granted", "LQuotaPeers$Session;", false)
  | _ => ("QuotaPeers", "enough", "I", false)
def zF0 : Nat → FieldType := fun k => match k with
  | 0 => .object "QuotaPeers$Text"
  | 1 => .object "QuotaPeers$Text"
  | 2 => .object "QuotaPeers$Text"
  | 3 => .object "QuotaPeers$Text"
  | 4 => .object "QuotaPeers$Page"
  | 5 => .object "QuotaPeers$Message"
  | 6 => .array (.object "QuotaPeers$Link")
  | 7 => .array (.object "QuotaPeers$Peer")
  | 8 => .int
  | 9 => .array (.object "QuotaPeers$Account")
  | 10 => .int
  | 11 => .array (.object "QuotaPeers$Session")
  | 12 => .int
  | 13 => .array (.object "QuotaPeers$Question")
  | 14 => .int
  | 15 => .array (.object "QuotaPeers$Answer")
  | 16 => .int
  | 17 => .int
  | 18 => .int
  | 19 => .int
  | 20 => .object "QuotaPeers$Session"
  | _ => .int
theorem zF0_ok : ∀ k, k < 22 → parseFieldDescriptor (zT0 k).2.2.1 = some (zF0 k) := by decide +kernel
theorem zN0 : ∀ a, a < 22 → ∀ b, b < 22 → a ≠ b → (zT0 a).2.1 ≠ (zT0 b).2.1 := by decide +kernel
theorem zI0 : ∀ w ∈ u_ws "QuotaPeers" zT0 22, w ∈ lw_all := lw_in (u_ws "QuotaPeers" zT0 22) [451, 453, 455, 457, 459, 461, 463, 465, 467, 469, 471, 473, 475, 477, 479, 481, 483, 485, 487, 489, 491, 493] (by decide +kernel) (by decide +kernel)
def zT1 : u_T := fun k => match k with
  | 0 => ("QuotaPeers$Text", "cells", "[B", true)
  | _ => ("QuotaPeers$Text", "size", "I", false)
def zF1 : Nat → FieldType := fun k => match k with
  | 0 => .array .byte
  | _ => .int
theorem zF1_ok : ∀ k, k < 2 → parseFieldDescriptor (zT1 k).2.2.1 = some (zF1 k) := by decide +kernel
theorem zN1 : ∀ a, a < 2 → ∀ b, b < 2 → a ≠ b → (zT1 a).2.1 ≠ (zT1 b).2.1 := by decide +kernel
theorem zI1 : ∀ w ∈ u_ws "QuotaPeers$Text" zT1 2, w ∈ lw_all := lw_in (u_ws "QuotaPeers$Text" zT1 2) [168, 170] (by decide +kernel) (by decide +kernel)
def zT2 : u_T := fun k => match k with
  | 0 => ("QuotaPeers$Page", "cells", "[B", true)
  | _ => ("QuotaPeers$Page", "size", "I", false)
def zF2 : Nat → FieldType := fun k => match k with
  | 0 => .array .byte
  | _ => .int
theorem zF2_ok : ∀ k, k < 2 → parseFieldDescriptor (zT2 k).2.2.1 = some (zF2 k) := by decide +kernel
theorem zN2 : ∀ a, a < 2 → ∀ b, b < 2 → a ≠ b → (zT2 a).2.1 ≠ (zT2 b).2.1 := by decide +kernel
theorem zI2 : ∀ w ∈ u_ws "QuotaPeers$Page" zT2 2, w ∈ lw_all := lw_in (u_ws "QuotaPeers$Page" zT2 2) [184, 186] (by decide +kernel) (by decide +kernel)
def zT3 : u_T := fun k => match k with
  | 0 => ("QuotaPeers$Message", "commands", "[LQuotaPeers$Command;", true)
  | 1 => ("QuotaPeers$Message", "cells", "[B", false)
  | 2 => ("QuotaPeers$Message", "size", "I", false)
  | 3 => ("QuotaPeers$Message", "flags", "I", false)
  | 4 => ("QuotaPeers$Message", "command", "I", false)
  | 5 => ("QuotaPeers$Message", "application", "I", false)
  | 6 => ("QuotaPeers$Message", "hop", "I", false)
  | 7 => ("QuotaPeers$Message", "end", "I", false)
  | 8 => ("QuotaPeers$Message", "codes", "[I", true)
  | 9 => ("QuotaPeers$Message", "froms", "[I", true)
  | 10 => ("QuotaPeers$Message", "sizes", "[I", true)
  | 11 => ("QuotaPeers$Message", "count", "I", false)
  | 12 => ("QuotaPeers$Message", "wrong", "I", false)
  | 13 => ("QuotaPeers$Message", "wrongCode", "I", false)
  | _ => ("QuotaPeers$Message", "foundSize", "I", false)
def zF3 : Nat → FieldType := fun k => match k with
  | 0 => .array (.object "QuotaPeers$Command")
  | 1 => .array .byte
  | 2 => .int
  | 3 => .int
  | 4 => .int
  | 5 => .int
  | 6 => .int
  | 7 => .int
  | 8 => .array .int
  | 9 => .array .int
  | 10 => .array .int
  | 11 => .int
  | 12 => .int
  | 13 => .int
  | _ => .int
theorem zF3_ok : ∀ k, k < 15 → parseFieldDescriptor (zT3 k).2.2.1 = some (zF3 k) := by decide +kernel
theorem zN3 : ∀ a, a < 15 → ∀ b, b < 15 → a ≠ b → (zT3 a).2.1 ≠ (zT3 b).2.1 := by decide +kernel
theorem zI3 : ∀ w ∈ u_ws "QuotaPeers$Message" zT3 15, w ∈ lw_all := lw_in (u_ws "QuotaPeers$Message" zT3 15) [236, 238, 240, 242, 244, 246, 248, 250, 252, 254, 256, 258, 260, 262, 264] (by decide +kernel) (by decide +kernel)
def zT4 : u_T := fun k => match k with
  | 0 => ("QuotaPeers$Link", "number", "I", true)
  | 1 => ("QuotaPeers$Link", "state", "I", false)
  | 2 => ("QuotaPeers$Link", "owner", "LQuotaPeers$Peer;", false)
  | 3 => ("QuotaPeers$Link", "own", "Z", false)
  | 4 => ("QuotaPeers$Link", "in", "[B", true)
  | 5 => ("QuotaPeers$Link", "came", "I", false)
  | 6 => ("QuotaPeers$Link", "queue", "[B", true)
  | 7 => ("QuotaPeers$Link", "first", "I", false)
  | _ => ("QuotaPeers$Link", "waiting", "I", false)
def zF4 : Nat → FieldType := fun k => match k with
  | 0 => .int
  | 1 => .int
  | 2 => .object "QuotaPeers$Peer"
  | 3 => .boolean
  | 4 => .array .byte
  | 5 => .int
  | 6 => .array .byte
  | 7 => .int
  | _ => .int
theorem zF4_ok : ∀ k, k < 9 → parseFieldDescriptor (zT4 k).2.2.1 = some (zF4 k) := by decide +kernel
theorem zN4 : ∀ a, a < 9 → ∀ b, b < 9 → a ≠ b → (zT4 a).2.1 ≠ (zT4 b).2.1 := by decide +kernel
theorem zI4 : ∀ w ∈ u_ws "QuotaPeers$Link" zT4 9, w ∈ lw_all := lw_in (u_ws "QuotaPeers$Link" zT4 9) [313, 315, 317, 319, 321, 323, 325, 327, 329] (by decide +kernel) (by decide +kernel)
def zT5 : u_T := fun k => match k with
  | 0 => ("QuotaPeers$Session", "name", "LQuotaPeers$Text;", true)
  | 1 => ("QuotaPeers$Session", "host", "LQuotaPeers$Text;", true)
  | 2 => ("QuotaPeers$Session", "realm", "LQuotaPeers$Text;", true)
  | 3 => ("QuotaPeers$Session", "account", "LQuotaPeers$Account;", false)
  | 4 => ("QuotaPeers$Session", "grant", "J", false)
  | 5 => ("QuotaPeers$Session", "count", "J", false)
  | 6 => ("QuotaPeers$Session", "peer", "I", false)
  | _ => ("QuotaPeers$Session", "ends", "I", false)
def zF5 : Nat → FieldType := fun k => match k with
  | 0 => .object "QuotaPeers$Text"
  | 1 => .object "QuotaPeers$Text"
  | 2 => .object "QuotaPeers$Text"
  | 3 => .object "QuotaPeers$Account"
  | 4 => .long
  | 5 => .long
  | 6 => .int
  | _ => .int
theorem zF5_ok : ∀ k, k < 8 → parseFieldDescriptor (zT5 k).2.2.1 = some (zF5 k) := by decide +kernel
theorem zN5 : ∀ a, a < 8 → ∀ b, b < 8 → a ≠ b → (zT5 a).2.1 ≠ (zT5 b).2.1 := by decide +kernel
theorem zI5 : ∀ w ∈ u_ws "QuotaPeers$Session" zT5 8, w ∈ lw_all := lw_in (u_ws "QuotaPeers$Session" zT5 8) [352, 354, 356, 358, 360, 362, 364, 366] (by decide +kernel) (by decide +kernel)
def zT6 : u_T := fun k => match k with
  | 0 => ("QuotaPeers$Question", "session", "LQuotaPeers$Text;", true)
  | 1 => ("QuotaPeers$Question", "host", "LQuotaPeers$Text;", true)
  | 2 => ("QuotaPeers$Question", "realm", "LQuotaPeers$Text;", true)
  | 3 => ("QuotaPeers$Question", "result", "J", false)
  | 4 => ("QuotaPeers$Question", "peer", "LQuotaPeers$Peer;", false)
  | 5 => ("QuotaPeers$Question", "sent", "I", false)
  | 6 => ("QuotaPeers$Question", "hop", "I", false)
  | _ => ("QuotaPeers$Question", "end", "I", false)
def zF6 : Nat → FieldType := fun k => match k with
  | 0 => .object "QuotaPeers$Text"
  | 1 => .object "QuotaPeers$Text"
  | 2 => .object "QuotaPeers$Text"
  | 3 => .long
  | 4 => .object "QuotaPeers$Peer"
  | 5 => .int
  | 6 => .int
  | _ => .int
theorem zF6_ok : ∀ k, k < 8 → parseFieldDescriptor (zT6 k).2.2.1 = some (zF6 k) := by decide +kernel
theorem zN6 : ∀ a, a < 8 → ∀ b, b < 8 → a ≠ b → (zT6 a).2.1 ≠ (zT6 b).2.1 := by decide +kernel
theorem zI6 : ∀ w ∈ u_ws "QuotaPeers$Question" zT6 8, w ∈ lw_all := lw_in (u_ws "QuotaPeers$Question" zT6 8) [387, 389, 391, 393, 395, 397, 399, 401] (by decide +kernel) (by decide +kernel)
def zT7 : u_T := fun k => match k with
  | 0 => ("QuotaPeers$Answer", "host", "LQuotaPeers$Text;", true)
  | 1 => ("QuotaPeers$Answer", "end", "I", false)
  | 2 => ("QuotaPeers$Answer", "time", "I", false)
  | 3 => ("QuotaPeers$Answer", "cells", "[B", true)
  | _ => ("QuotaPeers$Answer", "size", "I", false)
def zF7 : Nat → FieldType := fun k => match k with
  | 0 => .object "QuotaPeers$Text"
  | 1 => .int
  | 2 => .int
  | 3 => .array .byte
  | _ => .int
theorem zF7_ok : ∀ k, k < 5 → parseFieldDescriptor (zT7 k).2.2.1 = some (zF7 k) := by decide +kernel
theorem zN7 : ∀ a, a < 5 → ∀ b, b < 5 → a ≠ b → (zT7 a).2.1 ≠ (zT7 b).2.1 := by decide +kernel
theorem zI7 : ∀ w ∈ u_ws "QuotaPeers$Answer" zT7 5, w ∈ lw_all := lw_in (u_ws "QuotaPeers$Answer" zT7 5) [418, 420, 422, 424, 426] (by decide +kernel) (by decide +kernel)
def zT8 : u_T := fun k => match k with
  | 0 => ("QuotaPeersModel", "code", "I", false)
  | 1 => ("QuotaPeersModel", "now", "I", false)
  | 2 => ("QuotaPeersModel", "lost", "I", false)
  | 3 => ("QuotaPeersModel", "sign", "[B", true)
  | 4 => ("QuotaPeersModel", "signs", "I", false)
  | 5 => ("QuotaPeersModel", "host", "[B", true)
  | 6 => ("QuotaPeersModel", "hostSize", "I", false)
  | 7 => ("QuotaPeersModel", "peers", "I", false)
  | 8 => ("QuotaPeersModel", "peerName", "[B", true)
  | 9 => ("QuotaPeersModel", "peerSize", "[I", true)
  | 10 => ("QuotaPeersModel", "starts", "[Z", true)
  | 11 => ("QuotaPeersModel", "state", "[I", true)
  | 12 => ("QuotaPeersModel", "deadline", "[I", true)
  | 13 => ("QuotaPeersModel", "own", "[I", true)
  | 14 => ("QuotaPeersModel", "came", "[I", true)
  | 15 => ("QuotaPeersModel", "status", "[I", true)
  | 16 => ("QuotaPeersModel", "awaited", "[Z", true)
  | 17 => ("QuotaPeersModel", "timer", "[I", true)
  | 18 => ("QuotaPeersModel", "given", "[I", true)
  | 19 => ("QuotaPeersModel", "back", "[I", true)
  | 20 => ("QuotaPeersModel", "openHop", "[I", true)
  | 21 => ("QuotaPeersModel", "watchHop", "[I", true)
  | 22 => ("QuotaPeersModel", "endHop", "[I", true)
  | 23 => ("QuotaPeersModel", "cameFlags", "[I", true)
  | 24 => ("QuotaPeersModel", "cameHop", "[I", true)
  | 25 => ("QuotaPeersModel", "cameEnd", "[I", true)
  | 26 => ("QuotaPeersModel", "cState", "[I", true)
  | 27 => ("QuotaPeersModel", "cPeer", "[I", true)
  | 28 => ("QuotaPeersModel", "cRole", "[I", true)
  | 29 => ("QuotaPeersModel", "in", "[B", true)
  | 30 => ("QuotaPeersModel", "inSize", "[I", true)
  | 31 => ("QuotaPeersModel", "out", "[B", true)
  | 32 => ("QuotaPeersModel", "outSize", "[I", true)
  | 33 => ("QuotaPeersModel", "outFrom", "[I", true)
  | 34 => ("QuotaPeersModel", "hop", "I", false)
  | 35 => ("QuotaPeersModel", "accounts", "I", false)
  | 36 => ("QuotaPeersModel", "number", "[J", true)
  | 37 => ("QuotaPeersModel", "balance", "[J", true)
  | 38 => ("QuotaPeersModel", "reserved", "[J", true)
  | 39 => ("QuotaPeersModel", "charged", "[J", true)
  | 40 => ("QuotaPeersModel", "many", "I", false)
  | 41 => ("QuotaPeersModel", "sName", "[B", true)
  | 42 => ("QuotaPeersModel", "sHost", "[B", true)
  | 43 => ("QuotaPeersModel", "sRealm", "[B", true)
  | 44 => ("QuotaPeersModel", "sAccount", "[I", true)
  | 45 => ("QuotaPeersModel", "sGrant", "[J", true)
  | 46 => ("QuotaPeersModel", "sCount", "[J", true)
  | 47 => ("QuotaPeersModel", "sPeer", "[I", true)
  | 48 => ("QuotaPeersModel", "sEnd", "[I", true)
  | 49 => ("QuotaPeersModel", "asks", "I", false)
  | 50 => ("QuotaPeersModel", "qName", "[B", true)
  | 51 => ("QuotaPeersModel", "qHost", "[B", true)
  | 52 => ("QuotaPeersModel", "qRealm", "[B", true)
  | 53 => ("QuotaPeersModel", "qResult", "[J", true)
  | 54 => ("QuotaPeersModel", "qPeer", "[I", true)
  | 55 => ("QuotaPeersModel", "qTimes", "[I", true)
  | 56 => ("QuotaPeersModel", "qHop", "[I", true)
  | 57 => ("QuotaPeersModel", "qEnd", "[I", true)
  | 58 => ("QuotaPeersModel", "qConnection", "[I", true)
  | 59 => ("QuotaPeersModel", "keptMany", "I", false)
  | 60 => ("QuotaPeersModel", "kept", "[B", true)
  | 61 => ("QuotaPeersModel", "keptSize", "[I", true)
  | 62 => ("QuotaPeersModel", "keptHost", "[B", true)
  | 63 => ("QuotaPeersModel", "keptEnd", "[I", true)
  | 64 => ("QuotaPeersModel", "keptTill", "[I", true)
  | 65 => ("QuotaPeersModel", "made", "[B", true)
  | 66 => ("QuotaPeersModel", "size", "I", false)
  | 67 => ("QuotaPeersModel", "base", "I", false)
  | 68 => ("QuotaPeersModel", "length", "I", false)
  | 69 => ("QuotaPeersModel", "flags", "I", false)
  | 70 => ("QuotaPeersModel", "command", "I", false)
  | 71 => ("QuotaPeersModel", "application", "I", false)
  | 72 => ("QuotaPeersModel", "theirHop", "I", false)
  | 73 => ("QuotaPeersModel", "theirEnd", "I", false)
  | 74 => ("QuotaPeersModel", "wrong", "I", false)
  | 75 => ("QuotaPeersModel", "wrongCode", "I", false)
  | 76 => ("QuotaPeersModel", "keeps", "[I", true)
  | 77 => ("QuotaPeersModel", "firstAt", "[I", true)
  | 78 => ("QuotaPeersModel", "firstSize", "[I", true)
  | 79 => ("QuotaPeersModel", "often", "[I", true)
  | 80 => ("QuotaPeersModel", "goodAuth", "Z", false)
  | 81 => ("QuotaPeersModel", "whoAt", "I", false)
  | 82 => ("QuotaPeersModel", "whoSize", "I", false)
  | 83 => ("QuotaPeersModel", "wantedAt", "I", false)
  | 84 => ("QuotaPeersModel", "usedAt", "I", false)
  | 85 => ("QuotaPeersModel", "ends", "[I", true)
  | 86 => ("QuotaPeersModel", "behind", "[I", true)
  | 87 => ("QuotaPeersModel", "group", "[I", true)
  | 88 => ("QuotaPeersModel", "result", "I", false)
  | 89 => ("QuotaPeersModel", "tells", "Z", false)
  | 90 => ("QuotaPeersModel", "told", "J", false)
  | _ => ("QuotaPeersModel", "enough", "I", false)
def zF8 : Nat → FieldType := fun k => match k with
  | 0 => .int
  | 1 => .int
  | 2 => .int
  | 3 => .array .byte
  | 4 => .int
  | 5 => .array .byte
  | 6 => .int
  | 7 => .int
  | 8 => .array .byte
  | 9 => .array .int
  | 10 => .array .boolean
  | 11 => .array .int
  | 12 => .array .int
  | 13 => .array .int
  | 14 => .array .int
  | 15 => .array .int
  | 16 => .array .boolean
  | 17 => .array .int
  | 18 => .array .int
  | 19 => .array .int
  | 20 => .array .int
  | 21 => .array .int
  | 22 => .array .int
  | 23 => .array .int
  | 24 => .array .int
  | 25 => .array .int
  | 26 => .array .int
  | 27 => .array .int
  | 28 => .array .int
  | 29 => .array .byte
  | 30 => .array .int
  | 31 => .array .byte
  | 32 => .array .int
  | 33 => .array .int
  | 34 => .int
  | 35 => .int
  | 36 => .array .long
  | 37 => .array .long
  | 38 => .array .long
  | 39 => .array .long
  | 40 => .int
  | 41 => .array .byte
  | 42 => .array .byte
  | 43 => .array .byte
  | 44 => .array .int
  | 45 => .array .long
  | 46 => .array .long
  | 47 => .array .int
  | 48 => .array .int
  | 49 => .int
  | 50 => .array .byte
  | 51 => .array .byte
  | 52 => .array .byte
  | 53 => .array .long
  | 54 => .array .int
  | 55 => .array .int
  | 56 => .array .int
  | 57 => .array .int
  | 58 => .array .int
  | 59 => .int
  | 60 => .array .byte
  | 61 => .array .int
  | 62 => .array .byte
  | 63 => .array .int
  | 64 => .array .int
  | 65 => .array .byte
  | 66 => .int
  | 67 => .int
  | 68 => .int
  | 69 => .int
  | 70 => .int
  | 71 => .int
  | 72 => .int
  | 73 => .int
  | 74 => .int
  | 75 => .int
  | 76 => .array .int
  | 77 => .array .int
  | 78 => .array .int
  | 79 => .array .int
  | 80 => .boolean
  | 81 => .int
  | 82 => .int
  | 83 => .int
  | 84 => .int
  | 85 => .array .int
  | 86 => .array .int
  | 87 => .array .int
  | 88 => .int
  | 89 => .boolean
  | 90 => .long
  | _ => .int
theorem zF8_ok : ∀ k, k < 92 → parseFieldDescriptor (zT8 k).2.2.1 = some (zF8 k) := by decide +kernel
theorem zN8 : ∀ a, a < 92 → ∀ b, b < 92 → a ≠ b → (zT8 a).2.1 ≠ (zT8 b).2.1 := by decide +kernel
theorem zI8 : ∀ w ∈ u_ws "QuotaPeersModel" zT8 92, w ∈ lw_all := lw_in (u_ws "QuotaPeersModel" zT8 92) [1243, 1245, 1247, 1249, 1251, 1253, 1255, 1257, 1259, 1261, 1263, 1265, 1267, 1269, 1271, 1273, 1275, 1277, 1279, 1281, 1283, 1285, 1287, 1289, 1291, 1293, 1295, 1297, 1299, 1301, 1303, 1305, 1307, 1309, 1311, 1313, 1315, 1317, 1319, 1321, 1323, 1325, 1327, 1329, 1331, 1333, 1335, 1337, 1339, 1341, 1343, 1345, 1347, 1349, 1351, 1353, 1355, 1357, 1359, 1361, 1363, 1365, 1367, 1369, 1371, 1373, 1375, 1377, 1379, 1381, 1383, 1385, 1387, 1389, 1391, 1393, 1395, 1397, 1399, 1401, 1403, 1405, 1407, 1409, 1411, 1413, 1415, 1417, 1419, 1421, 1423, 1425] (by decide +kernel) (by decide +kernel)
def zT9 : u_T := fun k => match k with
  | 0 => ("QuotaPeers$Peer", "number", "I", true)
  | 1 => ("QuotaPeers$Peer", "host", "LQuotaPeers$Text;", true)
  | 2 => ("QuotaPeers$Peer", "starts", "Z", true)
  | 3 => ("QuotaPeers$Peer", "state", "I", false)
  | 4 => ("QuotaPeers$Peer", "limit", "I", false)
  | 5 => ("QuotaPeers$Peer", "own", "LQuotaPeers$Link;", false)
  | 6 => ("QuotaPeers$Peer", "came", "LQuotaPeers$Link;", false)
  | 7 => ("QuotaPeers$Peer", "cameFlags", "I", false)
  | 8 => ("QuotaPeers$Peer", "cameHop", "I", false)
  | 9 => ("QuotaPeers$Peer", "cameEnd", "I", false)
  | 10 => ("QuotaPeers$Peer", "status", "I", false)
  | 11 => ("QuotaPeers$Peer", "awaited", "Z", false)
  | 12 => ("QuotaPeers$Peer", "due", "I", false)
  | 13 => ("QuotaPeers$Peer", "overs", "I", false)
  | 14 => ("QuotaPeers$Peer", "answers", "I", false)
  | 15 => ("QuotaPeers$Peer", "openingHop", "I", false)
  | 16 => ("QuotaPeers$Peer", "watchHop", "I", false)
  | _ => ("QuotaPeers$Peer", "endingHop", "I", false)
def zF9 : Nat → FieldType := fun k => match k with
  | 0 => .int
  | 1 => .object "QuotaPeers$Text"
  | 2 => .boolean
  | 3 => .int
  | 4 => .int
  | 5 => .object "QuotaPeers$Link"
  | 6 => .object "QuotaPeers$Link"
  | 7 => .int
  | 8 => .int
  | 9 => .int
  | 10 => .int
  | 11 => .boolean
  | 12 => .int
  | 13 => .int
  | 14 => .int
  | 15 => .int
  | 16 => .int
  | _ => .int
theorem zF9_ok : ∀ k, k < 18 → parseFieldDescriptor (zT9 k).2.2.1 = some (zF9 k) := by decide +kernel
theorem zN9 : ∀ a, a < 18 → ∀ b, b < 18 → a ≠ b → (zT9 a).2.1 ≠ (zT9 b).2.1 := by decide +kernel
theorem zI9 : ∀ w ∈ u_ws "QuotaPeers$Peer" zT9 18, w ∈ lw_all := lw_in (u_ws "QuotaPeers$Peer" zT9 18) [557, 559, 561, 563, 565, 567, 569, 571, 573, 575, 577, 579, 581, 583, 585, 587, 589, 591] (by decide +kernel) (by decide +kernel)
def zT10 : u_T := fun k => match k with
  | 0 => ("QuotaPeers$Account", "number", "J", true)
  | 1 => ("QuotaPeers$Account", "balance", "J", false)
  | 2 => ("QuotaPeers$Account", "reserved", "J", false)
  | _ => ("QuotaPeers$Account", "charged", "J", false)
def zF10 : Nat → FieldType := fun k => match k with
  | 0 => .long
  | 1 => .long
  | 2 => .long
  | _ => .long
theorem zF10_ok : ∀ k, k < 4 → parseFieldDescriptor (zT10 k).2.2.1 = some (zF10 k) := by decide +kernel
theorem zN10 : ∀ a, a < 4 → ∀ b, b < 4 → a ≠ b → (zT10 a).2.1 ≠ (zT10 b).2.1 := by decide +kernel
theorem zI10 : ∀ w ∈ u_ws "QuotaPeers$Account" zT10 4, w ∈ lw_all := lw_in (u_ws "QuotaPeers$Account" zT10 4) [1107, 1109, 1111, 1113] (by decide +kernel) (by decide +kernel)
def z_CL : List vw_C := [("QuotaPeers", zT0, 22), ("QuotaPeers$Text", zT1, 2), ("QuotaPeers$Page", zT2, 2), ("QuotaPeers$Message", zT3, 15), ("QuotaPeers$Link", zT4, 9), ("QuotaPeers$Session", zT5, 8), ("QuotaPeers$Question", zT6, 8), ("QuotaPeers$Answer", zT7, 5), ("QuotaPeersModel", zT8, 92), ("QuotaPeers$Peer", zT9, 18), ("QuotaPeers$Account", zT10, 4)]
def oN (a : Nat) : Nat := ([22, 2, 2, 15, 9, 8, 8, 5, 92, 18, 4] : List Nat).getD a 0
/-- what a field holds: 0 an int, 1 a long, 2 a reference -/
def fTab : List (List Nat) := [[2, 2, 2, 2, 2, 2, 2, 2, 0, 2, 0, 2, 0, 2, 0, 2, 0, 0, 0, 0, 2, 0], [2, 0], [2, 0], [2, 2, 0, 0, 0, 0, 0, 0, 2, 2, 2, 0, 0, 0, 0], [0, 0, 2, 0, 2, 0, 2, 0, 0], [2, 2, 2, 2, 1, 1, 0, 0], [2, 2, 2, 1, 2, 0, 0, 0], [2, 0, 0, 2, 0], [0, 0, 0, 2, 0, 2, 0, 0, 2, 2, 2, 2, 2, 2, 2, 2, 2, 2, 2, 2, 2, 2, 2, 2, 2, 2, 2, 2, 2, 2, 2, 2, 2, 2, 0, 0, 2, 2, 2, 2, 0, 2, 2, 2, 2, 2, 2, 2, 2, 0, 2, 2, 2, 2, 2, 2, 2, 2, 2, 0, 2, 2, 2, 2, 2, 2, 0, 0, 0, 0, 0, 0, 0, 0, 0, 0, 2, 2, 2, 2, 0, 0, 0, 0, 0, 2, 2, 2, 0, 0, 1, 0], [0, 2, 0, 0, 0, 2, 2, 0, 0, 0, 0, 0, 0, 0, 0, 0, 0, 0], [1, 1, 1, 1]]
def fTy (a b : Nat) : Nat := (fTab.getD a []).getD b 9
/-- an array site's type (16 int, 17 byte, 18 boolean, 19 long, 20.. references), length, the class of its elements -/
def aTy (s : Nat) : Nat := s % 32
def aLen (s : Nat) : Nat := s / 32 % 32768
def aEl (s : Nat) : Nat := ([4, 9, 10, 5, 6, 7] : List Nat).getD (s % 32 - 20) 99
def z_off (a : Nat) : Nat := if a = 4 ∨ a = 73419537 ∨ a = 74512913 then 1 else 0
