/-! the tables' words by their places (claim/names) -/
set_option maxRecDepth 100000
theorem q117 : (Jvm.Cond.initialized "GangColumnsLaw") ∈ lw_all := lw_g (lw_at lw_m1 0 rfl) rfl
theorem q118 : (Jvm.Cond.initialized "GangColumns") ∈ lw_all := lw_g (lw_at lw_m1 1 rfl) rfl
theorem q119 : (Jvm.Cond.initialized "GangColumns$Cluster") ∈ lw_all := lw_g (lw_at lw_m1 2 rfl) rfl
theorem q120 : (Jvm.Cond.initialized "java/util/AbstractCollection") ∈ lw_all := lw_g (lw_at lw_m1 3 rfl) rfl
theorem q121 : (Jvm.Cond.initialized "java/util/AbstractList") ∈ lw_all := lw_g (lw_at lw_m1 4 rfl) rfl
theorem q122 : (Jvm.Cond.initialized "java/util/ArrayList") ∈ lw_all := lw_g (lw_at lw_m1 5 rfl) rfl
theorem q123 : (Jvm.Cond.initialized "java/util/AbstractMap") ∈ lw_all := lw_g (lw_at lw_m1 6 rfl) rfl
theorem q124 : (Jvm.Cond.initialized "java/util/TreeMap") ∈ lw_all := lw_g (lw_at lw_m1 7 rfl) rfl
theorem q125 : (Jvm.Cond.initialized "java/util/AbstractQueue") ∈ lw_all := lw_g (lw_at lw_m1 8 rfl) rfl
theorem q126 : (Jvm.Cond.initialized "java/util/PriorityQueue") ∈ lw_all := lw_g (lw_at lw_m1 9 rfl) rfl
theorem q127 : (Jvm.Cond.initialized "GangColumns$ByEnd") ∈ lw_all := lw_g (lw_at lw_m1 10 rfl) rfl
theorem q128 : (Jvm.Cond.initialized "GangColumns$Promises") ∈ lw_all := lw_g (lw_at lw_m1 11 rfl) rfl
theorem q129 : (Jvm.Cond.initialized "GangColumns$Cluster$InLine") ∈ lw_all := lw_g (lw_at lw_m1 12 rfl) rfl
theorem q130 : (Jvm.Cond.initialized "GangColumns$Column") ∈ lw_all := lw_g (lw_at lw_m1 13 rfl) rfl
theorem q131 : (Jvm.Cond.initialized "GangColumnsModel") ∈ lw_all := lw_g (lw_at lw_m1 14 rfl) rfl
theorem q132 : (Jvm.Cond.initialized "GangColumns$Share") ∈ lw_all := lw_g (lw_at lw_m1 15 rfl) rfl
theorem q133 : (Jvm.Cond.initialized "java/lang/Number") ∈ lw_all := lw_g (lw_at lw_m1 16 rfl) rfl
theorem q134 : (Jvm.Cond.initialized "java/lang/Integer") ∈ lw_all := lw_g (lw_at lw_m1 17 rfl) rfl
theorem q135 : (Jvm.Cond.initialized "java/lang/Integer$IntegerCache") ∈ lw_all := lw_g (lw_at lw_m1 18 rfl) rfl
theorem q136 : (Jvm.Cond.initialized "java/lang/String") ∈ lw_all := lw_g (lw_at lw_m1 19 rfl) rfl
theorem q137 : (Jvm.Cond.initialized "java/lang/StringLatin1") ∈ lw_all := lw_g (lw_at lw_m1 20 rfl) rfl
theorem q138 : (Jvm.Cond.initialized "java/lang/Math") ∈ lw_all := lw_g (lw_at lw_m1 21 rfl) rfl
theorem q139 : (Jvm.Cond.initialized "jdk/internal/util/ArraysSupport") ∈ lw_all := lw_g (lw_at lw_m1 22 rfl) rfl
theorem q140 : (Jvm.Cond.initialized "jdk/internal/misc/Unsafe") ∈ lw_all := lw_g (lw_at lw_m1 23 rfl) rfl
theorem q141 : (Jvm.Cond.initialized "jdk/internal/misc/UnsafeConstants") ∈ lw_all := lw_g (lw_at lw_m1 24 rfl) rfl
theorem q142 : (Jvm.Cond.initialized "java/lang/Long") ∈ lw_all := lw_g (lw_at lw_m1 25 rfl) rfl
theorem q143 : (Jvm.Cond.initialized "java/lang/StringUTF16") ∈ lw_all := lw_g (lw_at lw_m1 26 rfl) rfl
theorem q144 : (Jvm.Cond.initialized "jdk/internal/util/Preconditions") ∈ lw_all := lw_g (lw_at lw_m1 27 rfl) rfl
theorem q145 : (Jvm.Cond.initialized "java/util/TreeMap$Entry") ∈ lw_all := lw_g (lw_at lw_m1 28 rfl) rfl
theorem q146 : (Jvm.Cond.initialized "java/util/Objects") ∈ lw_all := lw_g (lw_at lw_m1 29 rfl) rfl
theorem q147 : (Jvm.Cond.initialized "java/util/TreeMap$Values") ∈ lw_all := lw_g (lw_at lw_m1 30 rfl) rfl
theorem q148 : (Jvm.Cond.initialized "java/util/ArrayList$Itr") ∈ lw_all := lw_g (lw_at lw_m1 31 rfl) rfl
theorem q149 : (Jvm.Cond.initialized "java/util/PriorityQueue$Itr") ∈ lw_all := lw_g (lw_at lw_m1 32 rfl) rfl
theorem q150 : (Jvm.Cond.initialized "java/util/TreeMap$PrivateEntryIterator") ∈ lw_all := lw_g (lw_at lw_m1 33 rfl) rfl
theorem q151 : (Jvm.Cond.initialized "java/util/TreeMap$EntryIterator") ∈ lw_all := lw_g (lw_at lw_m1 34 rfl) rfl
theorem q152 : (Jvm.Cond.initialized "java/util/TreeMap$KeyIterator") ∈ lw_all := lw_g (lw_at lw_m1 35 rfl) rfl
theorem q153 : (Jvm.Cond.initialized "java/util/TreeMap$ValueIterator") ∈ lw_all := lw_g (lw_at lw_m1 36 rfl) rfl
theorem q154 : (Jvm.Cond.initialized "java/util/AbstractSet") ∈ lw_all := lw_g (lw_at lw_m1 37 rfl) rfl
theorem q155 : (Jvm.Cond.initialized "java/util/TreeMap$KeySet") ∈ lw_all := lw_g (lw_at lw_m1 38 rfl) rfl
theorem q156 : (Jvm.Cond.initialized "GangColumns$Run") ∈ lw_all := lw_g (lw_at lw_m1 39 rfl) rfl
theorem q157 : (Jvm.Cond.initialized "java/util/ArrayDeque") ∈ lw_all := lw_g (lw_at lw_m1 40 rfl) rfl
theorem q158 : (Jvm.Cond.initialized "GangColumns$ArmsReader") ∈ lw_all := lw_g (lw_at lw_m1 41 rfl) rfl
theorem q159 : (Jvm.Cond.initialized "java/lang/Throwable") ∈ lw_all := lw_g (lw_at lw_m1 42 rfl) rfl
theorem q160 : (Jvm.Cond.initialized "java/lang/Exception") ∈ lw_all := lw_g (lw_at lw_m1 43 rfl) rfl
theorem q161 : (Jvm.Cond.initialized "GangColumns$Fault") ∈ lw_all := lw_g (lw_at lw_m1 44 rfl) rfl
theorem q162 : (Jvm.Cond.initialized "GangColumns$Arm") ∈ lw_all := lw_g (lw_at lw_m1 45 rfl) rfl
theorem q163 : (Jvm.Cond.initialized "java/util/Arrays") ∈ lw_all := lw_g (lw_at lw_m1 46 rfl) rfl
theorem q164 : (Jvm.Cond.initialized "java/lang/System") ∈ lw_all := lw_g (lw_at lw_m1 47 rfl) rfl
theorem q165 : (Jvm.Cond.initialized "GangColumns$Job") ∈ lw_all := lw_g (lw_at lw_m1 48 rfl) rfl
theorem q166 : (Jvm.Cond.initialized "java/util/TreeSet") ∈ lw_all := lw_g (lw_at lw_m1 49 rfl) rfl
theorem q167 : (Jvm.Cond.initialized "GangColumns$ByWidth") ∈ lw_all := lw_g (lw_at lw_m1 50 rfl) rfl
theorem q168 : (Jvm.Cond.initialized "GangColumns$Event") ∈ lw_all := lw_g (lw_at lw_m1 51 rfl) rfl
theorem q169 : (Jvm.Cond.initialized "GangColumns$FreeRuns$1") ∈ lw_all := lw_g (lw_at lw_m1 52 rfl) rfl
theorem q170 : (Jvm.Cond.initialized "GangColumns$Waiting") ∈ lw_all := lw_g (lw_at lw_m1 53 rfl) rfl
theorem q171 : (Jvm.Cond.initialized "GangColumns$1") ∈ lw_all := lw_g (lw_at lw_m1 54 rfl) rfl
theorem q172 : (Jvm.Cond.initialized "GangColumns$1Holds") ∈ lw_all := lw_g (lw_at lw_m1 55 rfl) rfl
theorem q173 : (Jvm.Cond.initialized "java/lang/AbstractStringBuilder") ∈ lw_all := lw_g (lw_at lw_m1 56 rfl) rfl
theorem q174 : (Jvm.Cond.initialized "java/lang/StringBuilder") ∈ lw_all := lw_g (lw_at lw_m1 57 rfl) rfl
theorem q175 : (Jvm.Cond.initialized "GangColumns$Span") ∈ lw_all := lw_g (lw_at lw_m1 58 rfl) rfl
theorem q176 : (Jvm.Cond.initialized "GangColumns$Hold") ∈ lw_all := lw_g (lw_at lw_m1 59 rfl) rfl
theorem q177 : (Jvm.Cond.initialized "GangColumns$Kept") ∈ lw_all := lw_g (lw_at lw_m1 60 rfl) rfl
theorem q178 : (Jvm.Cond.initialized "GangColumns$Going") ∈ lw_all := lw_g (lw_at lw_m1 61 rfl) rfl
theorem q179 : (Jvm.Cond.initialized "GangColumns$Runs") ∈ lw_all := lw_g (lw_at lw_m1 62 rfl) rfl
theorem q180 : (Jvm.Cond.initialized "GangColumns$Promised") ∈ lw_all := lw_g (lw_at lw_m1 63 rfl) rfl
theorem q181 : (Jvm.Cond.initialized "java/util/TreeMap$EntrySet") ∈ lw_all := lw_g (lw_at lw_m1 64 rfl) rfl
theorem q182 : (Jvm.Cond.initialized "GangColumns$Foresight") ∈ lw_all := lw_g (lw_at lw_m1 65 rfl) rfl
theorem q183 : (Jvm.Cond.initialized "GangColumns$Orders") ∈ lw_all := lw_g (lw_at lw_m1 66 rfl) rfl
theorem q184 : (Jvm.Cond.initialized "GangColumns$Moves") ∈ lw_all := lw_g (lw_at lw_m1 67 rfl) rfl
theorem q185 : (Jvm.Cond.initialized "GangColumns$FreeRuns") ∈ lw_all := lw_g (lw_at lw_m1 68 rfl) rfl
theorem q186 : (Jvm.Cond.initialized "GangColumns$WidestGoing") ∈ lw_all := lw_g (lw_at lw_m1 69 rfl) rfl
theorem q187 : (Jvm.Cond.classLink "GangColumnsLaw" (7 : Nat) "GangColumns") ∈ lw_all := lw_g (lw_at lw_m1 70 rfl) rfl
theorem q188 : (Jvm.Cond.instantiable "GangColumns" (4 : Nat)) ∈ lw_all := lw_g (lw_at lw_m1 71 rfl) rfl
theorem q189 : (Jvm.Cond.methodLink "GangColumnsLaw" (9 : Nat) ({ cls := "GangColumns", name := "<init>", desc := "()V" } : Jvm.MethodName)) ∈ lw_all := lw_g (lw_at lw_m1 72 rfl) rfl
theorem q190 : (Jvm.Cond.instanceMethod ({ cls := "GangColumns", name := "<init>", desc := "()V" } : Jvm.MethodName)) ∈ lw_all := lw_g (lw_at lw_m1 73 rfl) rfl
theorem q191 : (Jvm.Cond.code ({ cls := "GangColumns", name := "<init>", desc := "()V" } : Jvm.MethodName) prog_1_method_1_code (1 : Nat) (Option.none : Option Jvm.ClassFile.FieldType)) ∈ lw_all := lw_g (lw_at lw_m1 74 rfl) rfl
theorem q192 : (Jvm.Cond.methodLink "GangColumns" (1 : Nat) ({ cls := "java/lang/Object", name := "<init>", desc := "()V" } : Jvm.MethodName)) ∈ lw_all := lw_g (lw_at lw_m1 75 rfl) rfl
theorem q193 : (Jvm.Cond.instanceMethod ({ cls := "java/lang/Object", name := "<init>", desc := "()V" } : Jvm.MethodName)) ∈ lw_all := lw_g (lw_at lw_m1 76 rfl) rfl
theorem q194 : (Jvm.Cond.code ({ cls := "java/lang/Object", name := "<init>", desc := "()V" } : Jvm.MethodName) object_method_1_code (1 : Nat) (Option.none : Option Jvm.ClassFile.FieldType)) ∈ lw_all := lw_g (lw_at lw_m1 77 rfl) rfl
theorem q195 : (Jvm.Cond.classLink "GangColumns" (13 : Nat) "GangColumns$Cluster") ∈ lw_all := lw_g (lw_at lw_m1 78 rfl) rfl
theorem q196 : (Jvm.Cond.instantiable "GangColumns$Cluster" (24 : Nat)) ∈ lw_all := lw_g (lw_at lw_m1 79 rfl) rfl
theorem q197 : (Jvm.Cond.methodLink "GangColumns" (15 : Nat) ({ cls := "GangColumns$Cluster", name := "<init>", desc := "()V" } : Jvm.MethodName)) ∈ lw_all := lw_g (lw_at lw_m1 80 rfl) rfl
theorem q198 : (Jvm.Cond.instanceMethod ({ cls := "GangColumns$Cluster", name := "<init>", desc := "()V" } : Jvm.MethodName)) ∈ lw_all := lw_g (lw_at lw_m1 81 rfl) rfl
theorem q199 : (Jvm.Cond.code ({ cls := "GangColumns$Cluster", name := "<init>", desc := "()V" } : Jvm.MethodName) prog_8_method_1_code (3 : Nat) (Option.none : Option Jvm.ClassFile.FieldType)) ∈ lw_all := lw_g (lw_at lw_m1 82 rfl) rfl
theorem q200 : (Jvm.Cond.methodLink "GangColumns$Cluster" (3 : Nat) ({ cls := "java/lang/Object", name := "<init>", desc := "()V" } : Jvm.MethodName)) ∈ lw_all := lw_g (lw_at lw_m1 83 rfl) rfl
theorem q201 : (Jvm.Cond.classLink "GangColumns$Cluster" (9 : Nat) "GangColumns$Column") ∈ lw_all := lw_g (lw_at lw_m1 84 rfl) rfl
theorem q202 : (Jvm.Cond.arrayOver (Jvm.ClassFile.FieldType.object "GangColumns$Column")) ∈ lw_tbl := lw_at lw_m1 85 rfl
theorem q203 : (Jvm.Cond.classLink "GangColumns$Cluster" (28 : Nat) "[[I") ∈ lw_all := lw_g (lw_at lw_m1 86 rfl) rfl
theorem q204 : (Jvm.Cond.arrayOver (Jvm.ClassFile.FieldType.array Jvm.ClassFile.FieldType.int)) ∈ lw_tbl := lw_at lw_m1 87 rfl
theorem q205 : (Jvm.Cond.classLink "GangColumns$Cluster" (33 : Nat) "java/util/ArrayList") ∈ lw_all := lw_g (lw_at lw_m1 88 rfl) rfl
theorem q206 : (Jvm.Cond.instantiable "java/util/ArrayList" (3 : Nat)) ∈ lw_all := lw_g (lw_at lw_m1 89 rfl) rfl
theorem q207 : (Jvm.Cond.methodLink "GangColumns$Cluster" (35 : Nat) ({ cls := "java/util/ArrayList", name := "<init>", desc := "()V" } : Jvm.MethodName)) ∈ lw_all := lw_g (lw_at lw_m1 90 rfl) rfl
theorem q208 : (Jvm.Cond.instanceMethod ({ cls := "java/util/ArrayList", name := "<init>", desc := "()V" } : Jvm.MethodName)) ∈ lw_all := lw_g (lw_at lw_m1 91 rfl) rfl
theorem q209 : (Jvm.Cond.code ({ cls := "java/util/ArrayList", name := "<init>", desc := "()V" } : Jvm.MethodName) prog_61_method_2_code (1 : Nat) (Option.none : Option Jvm.ClassFile.FieldType)) ∈ lw_all := lw_g (lw_at lw_m1 92 rfl) rfl
theorem q210 : (Jvm.Cond.methodLink "java/util/ArrayList" (1 : Nat) ({ cls := "java/util/AbstractList", name := "<init>", desc := "()V" } : Jvm.MethodName)) ∈ lw_all := lw_g (lw_at lw_m1 93 rfl) rfl
theorem q211 : (Jvm.Cond.instanceMethod ({ cls := "java/util/AbstractList", name := "<init>", desc := "()V" } : Jvm.MethodName)) ∈ lw_all := lw_g (lw_at lw_m1 94 rfl) rfl
theorem q212 : (Jvm.Cond.code ({ cls := "java/util/AbstractList", name := "<init>", desc := "()V" } : Jvm.MethodName) prog_56_method_1_code (1 : Nat) (Option.none : Option Jvm.ClassFile.FieldType)) ∈ lw_all := lw_g (lw_at lw_m1 95 rfl) rfl
theorem q213 : (Jvm.Cond.methodLink "java/util/AbstractList" (1 : Nat) ({ cls := "java/util/AbstractCollection", name := "<init>", desc := "()V" } : Jvm.MethodName)) ∈ lw_all := lw_g (lw_at lw_m1 96 rfl) rfl
theorem q214 : (Jvm.Cond.instanceMethod ({ cls := "java/util/AbstractCollection", name := "<init>", desc := "()V" } : Jvm.MethodName)) ∈ lw_all := lw_g (lw_at lw_m1 97 rfl) rfl
theorem q215 : (Jvm.Cond.code ({ cls := "java/util/AbstractCollection", name := "<init>", desc := "()V" } : Jvm.MethodName) prog_55_method_1_code (1 : Nat) (Option.none : Option Jvm.ClassFile.FieldType)) ∈ lw_all := lw_g (lw_at lw_m1 98 rfl) rfl
theorem q216 : (Jvm.Cond.methodLink "java/util/AbstractCollection" (1 : Nat) ({ cls := "java/lang/Object", name := "<init>", desc := "()V" } : Jvm.MethodName)) ∈ lw_all := lw_g (lw_at lw_m1 99 rfl) rfl
theorem q217 : (Jvm.Cond.fieldLink "java/util/ArrayList" (39 : Nat) "java/util/ArrayList" "DEFAULTCAPACITY_EMPTY_ELEMENTDATA" "[Ljava/lang/Object;") ∈ lw_all := lw_g (lw_at lw_m1 100 rfl) rfl
theorem q218 : (Jvm.Cond.laysStatic "java/util/ArrayList" "DEFAULTCAPACITY_EMPTY_ELEMENTDATA" "[Ljava/lang/Object;") ∈ lw_tbl := lw_at lw_m1 101 rfl
theorem q219 : (Jvm.Cond.fieldLink "java/util/ArrayList" (9 : Nat) "java/util/ArrayList" "elementData" "[Ljava/lang/Object;") ∈ lw_all := lw_g (lw_at lw_m1 102 rfl) rfl
theorem q220 : (Jvm.Cond.fieldLink "java/util/ArrayList$Itr" (37 : Nat) "java/util/ArrayList" "elementData" "[Ljava/lang/Object;") ∈ lw_all := lw_g (lw_at lw_m1 103 rfl) rfl
theorem q221 : (Jvm.Cond.fieldLinkNest "java/util/ArrayList$Itr" (28 : Nat) "java/util/ArrayList" "size" "I" "java/util/ArrayList") ∈ lw_tbl := lw_at lw_m1 104 rfl
theorem q222 : (Jvm.Cond.fieldLink "java/util/ArrayList" (48 : Nat) "java/util/ArrayList" "size" "I") ∈ lw_all := lw_g (lw_at lw_m1 105 rfl) rfl
theorem q223 : (Jvm.Cond.fieldLink "java/util/AbstractList" (7 : Nat) "java/util/AbstractList" "modCount" "I") ∈ lw_all := lw_g (lw_at lw_m1 106 rfl) rfl
theorem q224 : (Jvm.Cond.fieldLink "java/util/ArrayList$Itr" (17 : Nat) "java/util/ArrayList" "modCount" "I") ∈ lw_all := lw_g (lw_at lw_m1 107 rfl) rfl
theorem q225 : (Jvm.Cond.sameField "java/util/ArrayList" "java/util/AbstractList" "modCount" "I") ∈ lw_all := lw_g (lw_at lw_m1 108 rfl) rfl
theorem q226 : (Jvm.Cond.fieldLink "java/util/ArrayList" (63 : Nat) "java/util/ArrayList" "modCount" "I") ∈ lw_all := lw_g (lw_at lw_m1 109 rfl) rfl
theorem q227 : (Jvm.Cond.lays "java/util/ArrayList" "java/util/ArrayList" "elementData" "[Ljava/lang/Object;") ∈ lw_all := lw_g (lw_at lw_m1 110 rfl) rfl
theorem q228 : (Jvm.Cond.soleField "java/util/ArrayList" "elementData") ∈ lw_all := lw_g (lw_at lw_m1 111 rfl) rfl
theorem q229 : (Jvm.Cond.lays "java/util/ArrayList" "java/util/ArrayList" "size" "I") ∈ lw_all := lw_g (lw_at lw_m1 112 rfl) rfl
theorem q230 : (Jvm.Cond.soleField "java/util/ArrayList" "size") ∈ lw_all := lw_g (lw_at lw_m1 113 rfl) rfl
theorem q231 : (Jvm.Cond.lays "java/util/ArrayList" "java/util/AbstractList" "modCount" "I") ∈ lw_all := lw_g (lw_at lw_m1 114 rfl) rfl
theorem q232 : (Jvm.Cond.soleField "java/util/AbstractList" "modCount") ∈ lw_all := lw_g (lw_at lw_m1 115 rfl) rfl
theorem q233 : (Jvm.Cond.superclass "java/util/ArrayList" "java/util/AbstractList") ∈ lw_all := lw_g (lw_at lw_m1 116 rfl) rfl
theorem q234 : (Jvm.Cond.arrayClass Jvm.ClassFile.FieldType.byte) ∈ lw_all := lw_g (lw_at lw_m1 117 rfl) rfl
theorem q235 : (Jvm.Cond.arrayClass Jvm.ClassFile.FieldType.int) ∈ lw_all := lw_g (lw_at lw_m1 118 rfl) rfl
theorem q236 : (Jvm.Cond.arrayClass Jvm.ClassFile.FieldType.long) ∈ lw_all := lw_g (lw_at lw_m1 119 rfl) rfl
theorem q237 : (Jvm.Cond.classLink "GangColumns$Cluster" (43 : Nat) "java/util/TreeMap") ∈ lw_all := lw_g (lw_at lw_m1 120 rfl) rfl
theorem q238 : (Jvm.Cond.instantiable "java/util/TreeMap" (9 : Nat)) ∈ lw_all := lw_g (lw_at lw_m1 121 rfl) rfl
theorem q239 : (Jvm.Cond.methodLink "GangColumns$Cluster" (45 : Nat) ({ cls := "java/util/TreeMap", name := "<init>", desc := "()V" } : Jvm.MethodName)) ∈ lw_all := lw_g (lw_at lw_m1 122 rfl) rfl
theorem q240 : (Jvm.Cond.instanceMethod ({ cls := "java/util/TreeMap", name := "<init>", desc := "()V" } : Jvm.MethodName)) ∈ lw_all := lw_g (lw_at lw_m1 123 rfl) rfl
theorem q241 : (Jvm.Cond.code ({ cls := "java/util/TreeMap", name := "<init>", desc := "()V" } : Jvm.MethodName) prog_83_method_1_code (1 : Nat) (Option.none : Option Jvm.ClassFile.FieldType)) ∈ lw_all := lw_g (lw_at lw_m1 124 rfl) rfl
theorem q242 : (Jvm.Cond.methodLink "java/util/TreeMap" (1 : Nat) ({ cls := "java/util/AbstractMap", name := "<init>", desc := "()V" } : Jvm.MethodName)) ∈ lw_all := lw_g (lw_at lw_m1 125 rfl) rfl
theorem q243 : (Jvm.Cond.instanceMethod ({ cls := "java/util/AbstractMap", name := "<init>", desc := "()V" } : Jvm.MethodName)) ∈ lw_all := lw_g (lw_at lw_m1 126 rfl) rfl
theorem q244 : (Jvm.Cond.code ({ cls := "java/util/AbstractMap", name := "<init>", desc := "()V" } : Jvm.MethodName) prog_57_method_1_code (1 : Nat) (Option.none : Option Jvm.ClassFile.FieldType)) ∈ lw_all := lw_g (lw_at lw_m1 127 rfl) rfl
theorem q245 : (Jvm.Cond.methodLink "java/util/AbstractMap" (1 : Nat) ({ cls := "java/lang/Object", name := "<init>", desc := "()V" } : Jvm.MethodName)) ∈ lw_all := lw_g (lw_at lw_m1 128 rfl) rfl
theorem q246 : (Jvm.Cond.fieldLink "java/util/TreeMap" (16 : Nat) "java/util/TreeMap" "comparator" "Ljava/util/Comparator;") ∈ lw_all := lw_g (lw_at lw_m1 129 rfl) rfl
theorem q247 : (Jvm.Cond.fieldLink "java/util/TreeMap" (101 : Nat) "java/util/TreeMap" "root" "Ljava/util/TreeMap$Entry;") ∈ lw_all := lw_g (lw_at lw_m1 130 rfl) rfl
theorem q248 : (Jvm.Cond.fieldLink "java/util/TreeMap" (7 : Nat) "java/util/TreeMap" "size" "I") ∈ lw_all := lw_g (lw_at lw_m1 131 rfl) rfl
theorem q249 : (Jvm.Cond.fieldLink "java/util/TreeMap" (13 : Nat) "java/util/TreeMap" "modCount" "I") ∈ lw_all := lw_g (lw_at lw_m1 132 rfl) rfl
theorem q250 : (Jvm.Cond.fieldLinkNest "java/util/TreeMap$PrivateEntryIterator" (13 : Nat) "java/util/TreeMap" "modCount" "I" "java/util/TreeMap") ∈ lw_tbl := lw_at lw_m1 133 rfl
theorem q251 : (Jvm.Cond.fieldLink "java/util/TreeMap" (188 : Nat) "java/util/TreeMap" "entrySet" "Ljava/util/TreeMap$EntrySet;") ∈ lw_all := lw_g (lw_at lw_m1 134 rfl) rfl
theorem q252 : (Jvm.Cond.fieldLink "java/util/TreeMap" (191 : Nat) "java/util/TreeMap" "navigableKeySet" "Ljava/util/TreeMap$KeySet;") ∈ lw_all := lw_g (lw_at lw_m1 135 rfl) rfl
theorem q253 : (Jvm.Cond.fieldLink "java/util/TreeMap" (233 : Nat) "java/util/TreeMap" "values" "Ljava/util/Collection;") ∈ lw_all := lw_g (lw_at lw_m1 136 rfl) rfl
theorem q254 : (Jvm.Cond.sameField "java/util/TreeMap" "java/util/AbstractMap" "values" "Ljava/util/Collection;") ∈ lw_all := lw_g (lw_at lw_m1 137 rfl) rfl
theorem q255 : (Jvm.Cond.laysFinal "java/util/TreeMap" "java/util/TreeMap" "comparator" "Ljava/util/Comparator;") ∈ lw_all := lw_g (lw_at lw_m1 138 rfl) rfl
theorem q256 : (Jvm.Cond.soleField "java/util/TreeMap" "comparator") ∈ lw_all := lw_g (lw_at lw_m1 139 rfl) rfl
theorem q257 : (Jvm.Cond.lays "java/util/TreeMap" "java/util/TreeMap" "root" "Ljava/util/TreeMap$Entry;") ∈ lw_all := lw_g (lw_at lw_m1 140 rfl) rfl
theorem q258 : (Jvm.Cond.soleField "java/util/TreeMap" "root") ∈ lw_all := lw_g (lw_at lw_m1 141 rfl) rfl
theorem q259 : (Jvm.Cond.lays "java/util/TreeMap" "java/util/TreeMap" "size" "I") ∈ lw_all := lw_g (lw_at lw_m1 142 rfl) rfl
theorem q260 : (Jvm.Cond.soleField "java/util/TreeMap" "size") ∈ lw_all := lw_g (lw_at lw_m1 143 rfl) rfl
theorem q261 : (Jvm.Cond.lays "java/util/TreeMap" "java/util/TreeMap" "modCount" "I") ∈ lw_all := lw_g (lw_at lw_m1 144 rfl) rfl
theorem q262 : (Jvm.Cond.soleField "java/util/TreeMap" "modCount") ∈ lw_all := lw_g (lw_at lw_m1 145 rfl) rfl
theorem q263 : (Jvm.Cond.lays "java/util/TreeMap" "java/util/TreeMap" "entrySet" "Ljava/util/TreeMap$EntrySet;") ∈ lw_all := lw_g (lw_at lw_m1 146 rfl) rfl
theorem q264 : (Jvm.Cond.soleField "java/util/TreeMap" "entrySet") ∈ lw_all := lw_g (lw_at lw_m1 147 rfl) rfl
theorem q265 : (Jvm.Cond.lays "java/util/TreeMap" "java/util/TreeMap" "navigableKeySet" "Ljava/util/TreeMap$KeySet;") ∈ lw_all := lw_g (lw_at lw_m1 148 rfl) rfl
theorem q266 : (Jvm.Cond.soleField "java/util/TreeMap" "navigableKeySet") ∈ lw_all := lw_g (lw_at lw_m1 149 rfl) rfl
theorem q267 : (Jvm.Cond.lays "java/util/TreeMap" "java/util/TreeMap" "descendingMap" "Ljava/util/NavigableMap;") ∈ lw_all := lw_g (lw_at lw_m1 150 rfl) rfl
theorem q268 : (Jvm.Cond.soleField "java/util/TreeMap" "descendingMap") ∈ lw_all := lw_g (lw_at lw_m1 151 rfl) rfl
theorem q269 : (Jvm.Cond.lays "java/util/TreeMap" "java/util/AbstractMap" "keySet" "Ljava/util/Set;") ∈ lw_all := lw_g (lw_at lw_m1 152 rfl) rfl
theorem q270 : (Jvm.Cond.soleField "java/util/AbstractMap" "keySet") ∈ lw_all := lw_g (lw_at lw_m1 153 rfl) rfl
theorem q271 : (Jvm.Cond.lays "java/util/TreeMap" "java/util/AbstractMap" "values" "Ljava/util/Collection;") ∈ lw_all := lw_g (lw_at lw_m1 154 rfl) rfl
theorem q272 : (Jvm.Cond.soleField "java/util/AbstractMap" "values") ∈ lw_all := lw_g (lw_at lw_m1 155 rfl) rfl
theorem q273 : (Jvm.Cond.superclass "java/util/TreeMap" "java/util/AbstractMap") ∈ lw_all := lw_g (lw_at lw_m1 156 rfl) rfl
theorem q274 : (Jvm.Cond.classLink "GangColumns$Cluster" (50 : Nat) "java/util/PriorityQueue") ∈ lw_all := lw_g (lw_at lw_m1 157 rfl) rfl
theorem q275 : (Jvm.Cond.instantiable "java/util/PriorityQueue" (4 : Nat)) ∈ lw_all := lw_g (lw_at lw_m1 158 rfl) rfl
theorem q276 : (Jvm.Cond.classLink "GangColumns$Cluster" (52 : Nat) "GangColumns$ByEnd") ∈ lw_all := lw_g (lw_at lw_m1 159 rfl) rfl
theorem q277 : (Jvm.Cond.instantiable "GangColumns$ByEnd" (0 : Nat)) ∈ lw_all := lw_g (lw_at lw_m1 160 rfl) rfl
theorem q278 : (Jvm.Cond.methodLinkNest "GangColumns$Cluster" (54 : Nat) ({ cls := "GangColumns$ByEnd", name := "<init>", desc := "()V" } : Jvm.MethodName) "GangColumns") ∈ lw_tbl := lw_at lw_m1 161 rfl
theorem q279 : (Jvm.Cond.instanceMethod ({ cls := "GangColumns$ByEnd", name := "<init>", desc := "()V" } : Jvm.MethodName)) ∈ lw_all := lw_g (lw_at lw_m1 162 rfl) rfl
theorem q280 : (Jvm.Cond.code ({ cls := "GangColumns$ByEnd", name := "<init>", desc := "()V" } : Jvm.MethodName) prog_6_method_1_code (1 : Nat) (Option.none : Option Jvm.ClassFile.FieldType)) ∈ lw_all := lw_g (lw_at lw_m1 163 rfl) rfl
theorem q281 : (Jvm.Cond.methodLink "GangColumns$ByEnd" (1 : Nat) ({ cls := "java/lang/Object", name := "<init>", desc := "()V" } : Jvm.MethodName)) ∈ lw_all := lw_g (lw_at lw_m1 164 rfl) rfl
theorem q282 : (Jvm.Cond.superclass "GangColumns$ByEnd" "java/lang/Object") ∈ lw_all := lw_g (lw_at lw_m1 165 rfl) rfl
theorem q283 : (Jvm.Cond.methodLink "GangColumns$Cluster" (55 : Nat) ({ cls := "java/util/PriorityQueue", name := "<init>", desc := "(Ljava/util/Comparator;)V" } : Jvm.MethodName)) ∈ lw_all := lw_g (lw_at lw_m1 166 rfl) rfl
theorem q284 : (Jvm.Cond.instanceMethod ({ cls := "java/util/PriorityQueue", name := "<init>", desc := "(Ljava/util/Comparator;)V" } : Jvm.MethodName)) ∈ lw_all := lw_g (lw_at lw_m1 167 rfl) rfl
theorem q285 : (Jvm.Cond.code ({ cls := "java/util/PriorityQueue", name := "<init>", desc := "(Ljava/util/Comparator;)V" } : Jvm.MethodName) prog_73_method_3_code (2 : Nat) (Option.none : Option Jvm.ClassFile.FieldType)) ∈ lw_all := lw_g (lw_at lw_m1 168 rfl) rfl
theorem q286 : (Jvm.Cond.methodLink "java/util/PriorityQueue" (3 : Nat) ({ cls := "java/util/PriorityQueue", name := "<init>", desc := "(ILjava/util/Comparator;)V" } : Jvm.MethodName)) ∈ lw_all := lw_g (lw_at lw_m1 169 rfl) rfl
theorem q287 : (Jvm.Cond.instanceMethod ({ cls := "java/util/PriorityQueue", name := "<init>", desc := "(ILjava/util/Comparator;)V" } : Jvm.MethodName)) ∈ lw_all := lw_g (lw_at lw_m1 170 rfl) rfl
theorem q288 : (Jvm.Cond.code ({ cls := "java/util/PriorityQueue", name := "<init>", desc := "(ILjava/util/Comparator;)V" } : Jvm.MethodName) prog_73_method_4_code (3 : Nat) (Option.none : Option Jvm.ClassFile.FieldType)) ∈ lw_all := lw_g (lw_at lw_m1 171 rfl) rfl
theorem q289 : (Jvm.Cond.methodLink "java/util/PriorityQueue" (7 : Nat) ({ cls := "java/util/AbstractQueue", name := "<init>", desc := "()V" } : Jvm.MethodName)) ∈ lw_all := lw_g (lw_at lw_m1 172 rfl) rfl
theorem q290 : (Jvm.Cond.instanceMethod ({ cls := "java/util/AbstractQueue", name := "<init>", desc := "()V" } : Jvm.MethodName)) ∈ lw_all := lw_g (lw_at lw_m1 173 rfl) rfl
theorem q291 : (Jvm.Cond.code ({ cls := "java/util/AbstractQueue", name := "<init>", desc := "()V" } : Jvm.MethodName) prog_58_method_1_code (1 : Nat) (Option.none : Option Jvm.ClassFile.FieldType)) ∈ lw_all := lw_g (lw_at lw_m1 174 rfl) rfl
theorem q292 : (Jvm.Cond.methodLink "java/util/AbstractQueue" (1 : Nat) ({ cls := "java/util/AbstractCollection", name := "<init>", desc := "()V" } : Jvm.MethodName)) ∈ lw_all := lw_g (lw_at lw_m1 175 rfl) rfl
theorem q293 : (Jvm.Cond.classLink "java/util/PriorityQueue" (15 : Nat) "java/lang/Object") ∈ lw_all := lw_g (lw_at lw_m1 176 rfl) rfl
theorem q294 : (Jvm.Cond.arrayOver (Jvm.ClassFile.FieldType.object "java/lang/Object")) ∈ lw_tbl := lw_at lw_m1 177 rfl
theorem q295 : (Jvm.Cond.fieldLink "java/util/PriorityQueue$Itr" (44 : Nat) "java/util/PriorityQueue" "queue" "[Ljava/lang/Object;") ∈ lw_all := lw_g (lw_at lw_m1 178 rfl) rfl
theorem q296 : (Jvm.Cond.fieldLink "java/util/PriorityQueue" (17 : Nat) "java/util/PriorityQueue" "queue" "[Ljava/lang/Object;") ∈ lw_all := lw_g (lw_at lw_m1 179 rfl) rfl
theorem q297 : (Jvm.Cond.fieldLink "java/util/PriorityQueue$Itr" (28 : Nat) "java/util/PriorityQueue" "size" "I") ∈ lw_all := lw_g (lw_at lw_m1 180 rfl) rfl
theorem q298 : (Jvm.Cond.fieldLink "java/util/PriorityQueue" (58 : Nat) "java/util/PriorityQueue" "size" "I") ∈ lw_all := lw_g (lw_at lw_m1 181 rfl) rfl
theorem q299 : (Jvm.Cond.fieldLink "java/util/PriorityQueue" (21 : Nat) "java/util/PriorityQueue" "comparator" "Ljava/util/Comparator;") ∈ lw_all := lw_g (lw_at lw_m1 182 rfl) rfl
theorem q300 : (Jvm.Cond.fieldLink "java/util/PriorityQueue$Itr" (17 : Nat) "java/util/PriorityQueue" "modCount" "I") ∈ lw_all := lw_g (lw_at lw_m1 183 rfl) rfl
theorem q301 : (Jvm.Cond.fieldLink "java/util/PriorityQueue" (93 : Nat) "java/util/PriorityQueue" "modCount" "I") ∈ lw_all := lw_g (lw_at lw_m1 184 rfl) rfl
theorem q302 : (Jvm.Cond.lays "java/util/PriorityQueue" "java/util/PriorityQueue" "queue" "[Ljava/lang/Object;") ∈ lw_all := lw_g (lw_at lw_m1 185 rfl) rfl
theorem q303 : (Jvm.Cond.soleField "java/util/PriorityQueue" "queue") ∈ lw_all := lw_g (lw_at lw_m1 186 rfl) rfl
theorem q304 : (Jvm.Cond.lays "java/util/PriorityQueue" "java/util/PriorityQueue" "size" "I") ∈ lw_all := lw_g (lw_at lw_m1 187 rfl) rfl
theorem q305 : (Jvm.Cond.soleField "java/util/PriorityQueue" "size") ∈ lw_all := lw_g (lw_at lw_m1 188 rfl) rfl
theorem q306 : (Jvm.Cond.laysFinal "java/util/PriorityQueue" "java/util/PriorityQueue" "comparator" "Ljava/util/Comparator;") ∈ lw_all := lw_g (lw_at lw_m1 189 rfl) rfl
theorem q307 : (Jvm.Cond.soleField "java/util/PriorityQueue" "comparator") ∈ lw_all := lw_g (lw_at lw_m1 190 rfl) rfl
theorem q308 : (Jvm.Cond.lays "java/util/PriorityQueue" "java/util/PriorityQueue" "modCount" "I") ∈ lw_all := lw_g (lw_at lw_m1 191 rfl) rfl
theorem q309 : (Jvm.Cond.soleField "java/util/PriorityQueue" "modCount") ∈ lw_all := lw_g (lw_at lw_m1 192 rfl) rfl
theorem q310 : (Jvm.Cond.superclass "java/util/PriorityQueue" "java/util/AbstractQueue") ∈ lw_all := lw_g (lw_at lw_m1 193 rfl) rfl
theorem q311 : (Jvm.Cond.classLink "GangColumns$Cluster" (65 : Nat) "GangColumns$Promises") ∈ lw_all := lw_g (lw_at lw_m1 194 rfl) rfl
theorem q312 : (Jvm.Cond.instantiable "GangColumns$Promises" (2 : Nat)) ∈ lw_all := lw_g (lw_at lw_m1 195 rfl) rfl
theorem q313 : (Jvm.Cond.methodLink "GangColumns$Cluster" (67 : Nat) ({ cls := "GangColumns$Promises", name := "<init>", desc := "()V" } : Jvm.MethodName)) ∈ lw_all := lw_g (lw_at lw_m1 196 rfl) rfl
theorem q314 : (Jvm.Cond.instanceMethod ({ cls := "GangColumns$Promises", name := "<init>", desc := "()V" } : Jvm.MethodName)) ∈ lw_all := lw_g (lw_at lw_m1 197 rfl) rfl
theorem q315 : (Jvm.Cond.code ({ cls := "GangColumns$Promises", name := "<init>", desc := "()V" } : Jvm.MethodName) prog_24_method_1_code (1 : Nat) (Option.none : Option Jvm.ClassFile.FieldType)) ∈ lw_all := lw_g (lw_at lw_m1 198 rfl) rfl
theorem q316 : (Jvm.Cond.methodLink "GangColumns$Promises" (3 : Nat) ({ cls := "java/lang/Object", name := "<init>", desc := "()V" } : Jvm.MethodName)) ∈ lw_all := lw_g (lw_at lw_m1 199 rfl) rfl
theorem q317 : (Jvm.Cond.methodLink "GangColumns$Promises" (15 : Nat) ({ cls := "GangColumns$Promises", name := "clear", desc := "()V" } : Jvm.MethodName)) ∈ lw_all := lw_g (lw_at lw_m1 200 rfl) rfl
theorem q318 : (Jvm.Cond.instanceMethod ({ cls := "GangColumns$Promises", name := "clear", desc := "()V" } : Jvm.MethodName)) ∈ lw_all := lw_g (lw_at lw_m1 201 rfl) rfl
theorem q319 : (Jvm.Cond.selects "GangColumns$Promises" ({ cls := "GangColumns$Promises", name := "clear", desc := "()V" } : Jvm.MethodName) ({ cls := "GangColumns$Promises", name := "clear", desc := "()V" } : Jvm.MethodName)) ∈ lw_all := lw_g (lw_at lw_m1 202 rfl) rfl
theorem q320 : (Jvm.Cond.code ({ cls := "GangColumns$Promises", name := "clear", desc := "()V" } : Jvm.MethodName) prog_24_method_2_code (2 : Nat) (Option.none : Option Jvm.ClassFile.FieldType)) ∈ lw_all := lw_g (lw_at lw_m1 203 rfl) rfl
theorem q321 : (Jvm.Cond.fieldLink "GangColumns$Promises" (9 : Nat) "GangColumns$Promises" "ticks" "[I") ∈ lw_all := lw_g (lw_at lw_m1 204 rfl) rfl
theorem q322 : (Jvm.Cond.fieldLink "GangColumns$Promises" (18 : Nat) "GangColumns$Promises" "many" "I") ∈ lw_all := lw_g (lw_at lw_m1 205 rfl) rfl
theorem q323 : (Jvm.Cond.fieldLinkNest "GangColumns$Cluster" (401 : Nat) "GangColumns$Promises" "many" "I" "GangColumns") ∈ lw_tbl := lw_at lw_m1 206 rfl
theorem q324 : (Jvm.Cond.fieldLinkNest "GangColumns" (506 : Nat) "GangColumns$Promises" "many" "I" "GangColumns") ∈ lw_tbl := lw_at lw_m1 207 rfl
theorem q325 : (Jvm.Cond.laysFinal "GangColumns$Promises" "GangColumns$Promises" "ticks" "[I") ∈ lw_all := lw_g (lw_at lw_m1 208 rfl) rfl
theorem q326 : (Jvm.Cond.soleField "GangColumns$Promises" "ticks") ∈ lw_all := lw_g (lw_at lw_m1 209 rfl) rfl
theorem q327 : (Jvm.Cond.lays "GangColumns$Promises" "GangColumns$Promises" "many" "I") ∈ lw_all := lw_g (lw_at lw_m1 210 rfl) rfl
theorem q328 : (Jvm.Cond.soleField "GangColumns$Promises" "many") ∈ lw_all := lw_g (lw_at lw_m1 211 rfl) rfl
theorem q329 : (Jvm.Cond.superclass "GangColumns$Promises" "java/lang/Object") ∈ lw_all := lw_g (lw_at lw_m1 212 rfl) rfl
theorem q330 : (Jvm.Cond.classLink "GangColumns$Cluster" (85 : Nat) "GangColumns$Job") ∈ lw_all := lw_g (lw_at lw_m1 213 rfl) rfl
theorem q331 : (Jvm.Cond.arrayOver (Jvm.ClassFile.FieldType.object "GangColumns$Job")) ∈ lw_tbl := lw_at lw_m1 214 rfl
theorem q332 : (Jvm.Cond.classLink "GangColumns$Cluster" (91 : Nat) "GangColumns$Cluster$InLine") ∈ lw_all := lw_g (lw_at lw_m1 215 rfl) rfl
theorem q333 : (Jvm.Cond.instantiable "GangColumns$Cluster$InLine" (1 : Nat)) ∈ lw_all := lw_g (lw_at lw_m1 216 rfl) rfl
theorem q334 : (Jvm.Cond.methodLinkNest "GangColumns$Cluster" (93 : Nat) ({ cls := "GangColumns$Cluster$InLine", name := "<init>", desc := "(LGangColumns$Cluster;)V" } : Jvm.MethodName) "GangColumns") ∈ lw_tbl := lw_at lw_m1 217 rfl
theorem q335 : (Jvm.Cond.instanceMethod ({ cls := "GangColumns$Cluster$InLine", name := "<init>", desc := "(LGangColumns$Cluster;)V" } : Jvm.MethodName)) ∈ lw_all := lw_g (lw_at lw_m1 218 rfl) rfl
theorem q336 : (Jvm.Cond.code ({ cls := "GangColumns$Cluster$InLine", name := "<init>", desc := "(LGangColumns$Cluster;)V" } : Jvm.MethodName) prog_9_method_1_code (2 : Nat) (Option.none : Option Jvm.ClassFile.FieldType)) ∈ lw_all := lw_g (lw_at lw_m1 219 rfl) rfl
theorem q337 : (Jvm.Cond.methodLink "GangColumns$Cluster$InLine" (7 : Nat) ({ cls := "java/lang/Object", name := "<init>", desc := "()V" } : Jvm.MethodName)) ∈ lw_all := lw_g (lw_at lw_m1 220 rfl) rfl
theorem q338 : (Jvm.Cond.fieldLink "GangColumns$Cluster$InLine" (1 : Nat) "GangColumns$Cluster$InLine" "this$0" "LGangColumns$Cluster;") ∈ lw_all := lw_g (lw_at lw_m1 221 rfl) rfl
theorem q339 : (Jvm.Cond.laysFinal "GangColumns$Cluster$InLine" "GangColumns$Cluster$InLine" "this$0" "LGangColumns$Cluster;") ∈ lw_all := lw_g (lw_at lw_m1 222 rfl) rfl
theorem q340 : (Jvm.Cond.soleField "GangColumns$Cluster$InLine" "this$0") ∈ lw_all := lw_g (lw_at lw_m1 223 rfl) rfl
theorem q341 : (Jvm.Cond.superclass "GangColumns$Cluster$InLine" "java/lang/Object") ∈ lw_all := lw_g (lw_at lw_m1 224 rfl) rfl
theorem q342 : (Jvm.Cond.instantiable "GangColumns$Column" (1 : Nat)) ∈ lw_all := lw_g (lw_at lw_m1 225 rfl) rfl
theorem q343 : (Jvm.Cond.methodLinkNest "GangColumns$Cluster" (107 : Nat) ({ cls := "GangColumns$Column", name := "<init>", desc := "()V" } : Jvm.MethodName) "GangColumns") ∈ lw_tbl := lw_at lw_m1 226 rfl
theorem q344 : (Jvm.Cond.instanceMethod ({ cls := "GangColumns$Column", name := "<init>", desc := "()V" } : Jvm.MethodName)) ∈ lw_all := lw_g (lw_at lw_m1 227 rfl) rfl
theorem q345 : (Jvm.Cond.code ({ cls := "GangColumns$Column", name := "<init>", desc := "()V" } : Jvm.MethodName) prog_10_method_1_code (1 : Nat) (Option.none : Option Jvm.ClassFile.FieldType)) ∈ lw_all := lw_g (lw_at lw_m1 228 rfl) rfl
theorem q346 : (Jvm.Cond.methodLink "GangColumns$Column" (1 : Nat) ({ cls := "java/lang/Object", name := "<init>", desc := "()V" } : Jvm.MethodName)) ∈ lw_all := lw_g (lw_at lw_m1 229 rfl) rfl
theorem q347 : (Jvm.Cond.classLink "GangColumns$Column" (7 : Nat) "java/util/ArrayList") ∈ lw_all := lw_g (lw_at lw_m1 230 rfl) rfl
theorem q348 : (Jvm.Cond.methodLink "GangColumns$Column" (9 : Nat) ({ cls := "java/util/ArrayList", name := "<init>", desc := "()V" } : Jvm.MethodName)) ∈ lw_all := lw_g (lw_at lw_m1 231 rfl) rfl
theorem q349 : (Jvm.Cond.fieldLink "GangColumns$Column" (10 : Nat) "GangColumns$Column" "holds" "Ljava/util/ArrayList;") ∈ lw_all := lw_g (lw_at lw_m1 232 rfl) rfl
theorem q350 : (Jvm.Cond.fieldLinkNest "GangColumns" (447 : Nat) "GangColumns$Column" "holds" "Ljava/util/ArrayList;" "GangColumns") ∈ lw_tbl := lw_at lw_m1 233 rfl
theorem q351 : (Jvm.Cond.laysFinal "GangColumns$Column" "GangColumns$Column" "holds" "Ljava/util/ArrayList;") ∈ lw_all := lw_g (lw_at lw_m1 234 rfl) rfl
theorem q352 : (Jvm.Cond.soleField "GangColumns$Column" "holds") ∈ lw_all := lw_g (lw_at lw_m1 235 rfl) rfl
theorem q353 : (Jvm.Cond.superclass "GangColumns$Column" "java/lang/Object") ∈ lw_all := lw_g (lw_at lw_m1 236 rfl) rfl
theorem q354 : (Jvm.Cond.arrayClass Jvm.ClassFile.FieldType.boolean) ∈ lw_all := lw_g (lw_at lw_m1 237 rfl) rfl
theorem q355 : (Jvm.Cond.fieldLink "GangColumns$Cluster" (11 : Nat) "GangColumns$Cluster" "columns" "[LGangColumns$Column;") ∈ lw_all := lw_g (lw_at lw_m1 238 rfl) rfl
theorem q356 : (Jvm.Cond.fieldLinkNest "GangColumns$Moves" (91 : Nat) "GangColumns$Cluster" "columns" "[LGangColumns$Column;" "GangColumns") ∈ lw_tbl := lw_at lw_m1 239 rfl
theorem q357 : (Jvm.Cond.fieldLinkNest "GangColumns" (341 : Nat) "GangColumns$Cluster" "columns" "[LGangColumns$Column;" "GangColumns") ∈ lw_tbl := lw_at lw_m2 0 rfl
theorem q358 : (Jvm.Cond.fieldLink "GangColumns$Cluster" (17 : Nat) "GangColumns$Cluster" "weights" "[I") ∈ lw_all := lw_g (lw_at lw_m2 1 rfl) rfl
theorem q359 : (Jvm.Cond.fieldLinkNest "GangColumns$Cluster$InLine" (28 : Nat) "GangColumns$Cluster" "weights" "[I" "GangColumns") ∈ lw_tbl := lw_at lw_m2 2 rfl
theorem q360 : (Jvm.Cond.fieldLinkNest "GangColumns" (61 : Nat) "GangColumns$Cluster" "weights" "[I" "GangColumns") ∈ lw_tbl := lw_at lw_m2 3 rfl
theorem q361 : (Jvm.Cond.fieldLink "GangColumns$Cluster" (21 : Nat) "GangColumns$Cluster" "limits" "[I") ∈ lw_all := lw_g (lw_at lw_m2 4 rfl) rfl
theorem q362 : (Jvm.Cond.fieldLinkNest "GangColumns" (67 : Nat) "GangColumns$Cluster" "limits" "[I" "GangColumns") ∈ lw_tbl := lw_at lw_m2 5 rfl
theorem q363 : (Jvm.Cond.fieldLink "GangColumns$Cluster" (24 : Nat) "GangColumns$Cluster" "used" "[J") ∈ lw_all := lw_g (lw_at lw_m2 6 rfl) rfl
theorem q364 : (Jvm.Cond.fieldLinkNest "GangColumns$Cluster$InLine" (19 : Nat) "GangColumns$Cluster" "used" "[J" "GangColumns") ∈ lw_tbl := lw_at lw_m2 7 rfl
theorem q365 : (Jvm.Cond.fieldLinkNest "GangColumns" (122 : Nat) "GangColumns$Cluster" "used" "[J" "GangColumns") ∈ lw_tbl := lw_at lw_m2 8 rfl
theorem q366 : (Jvm.Cond.fieldLink "GangColumns$Cluster" (30 : Nat) "GangColumns$Cluster" "chart" "[[I") ∈ lw_all := lw_g (lw_at lw_m2 9 rfl) rfl
theorem q367 : (Jvm.Cond.fieldLinkNest "GangColumns" (483 : Nat) "GangColumns$Cluster" "chart" "[[I" "GangColumns") ∈ lw_tbl := lw_at lw_m2 10 rfl
theorem q368 : (Jvm.Cond.fieldLink "GangColumns$Cluster" (36 : Nat) "GangColumns$Cluster" "events" "Ljava/util/ArrayList;") ∈ lw_all := lw_g (lw_at lw_m2 11 rfl) rfl
theorem q369 : (Jvm.Cond.fieldLinkNest "GangColumns" (487 : Nat) "GangColumns$Cluster" "events" "Ljava/util/ArrayList;" "GangColumns") ∈ lw_tbl := lw_at lw_m2 12 rfl
theorem q370 : (Jvm.Cond.fieldLinkNest "GangColumns$Foresight" (38 : Nat) "GangColumns$Cluster" "jobs" "Ljava/util/ArrayList;" "GangColumns") ∈ lw_tbl := lw_at lw_m2 13 rfl
theorem q371 : (Jvm.Cond.fieldLink "GangColumns$Cluster" (40 : Nat) "GangColumns$Cluster" "jobs" "Ljava/util/ArrayList;") ∈ lw_all := lw_g (lw_at lw_m2 14 rfl) rfl
theorem q372 : (Jvm.Cond.fieldLinkNest "GangColumns" (39 : Nat) "GangColumns$Cluster" "jobs" "Ljava/util/ArrayList;" "GangColumns") ∈ lw_tbl := lw_at lw_m2 15 rfl
theorem q373 : (Jvm.Cond.fieldLink "GangColumns$Cluster" (46 : Nat) "GangColumns$Cluster" "spans" "Ljava/util/TreeMap;") ∈ lw_all := lw_g (lw_at lw_m2 16 rfl) rfl
theorem q374 : (Jvm.Cond.fieldLinkNest "GangColumns" (297 : Nat) "GangColumns$Cluster" "spans" "Ljava/util/TreeMap;" "GangColumns") ∈ lw_tbl := lw_at lw_m2 17 rfl
theorem q375 : (Jvm.Cond.fieldLink "GangColumns$Cluster" (58 : Nat) "GangColumns$Cluster" "going" "Ljava/util/PriorityQueue;") ∈ lw_all := lw_g (lw_at lw_m2 18 rfl) rfl
theorem q376 : (Jvm.Cond.fieldLinkNest "GangColumns" (418 : Nat) "GangColumns$Cluster" "going" "Ljava/util/PriorityQueue;" "GangColumns") ∈ lw_tbl := lw_at lw_m2 19 rfl
theorem q377 : (Jvm.Cond.fieldLink "GangColumns$Cluster" (62 : Nat) "GangColumns$Cluster" "started" "Ljava/util/ArrayList;") ∈ lw_all := lw_g (lw_at lw_m2 20 rfl) rfl
theorem q378 : (Jvm.Cond.fieldLinkNest "GangColumns" (493 : Nat) "GangColumns$Cluster" "started" "Ljava/util/ArrayList;" "GangColumns") ∈ lw_tbl := lw_at lw_m2 21 rfl
theorem q379 : (Jvm.Cond.fieldLink "GangColumns$Cluster" (68 : Nat) "GangColumns$Cluster" "promises" "LGangColumns$Promises;") ∈ lw_all := lw_g (lw_at lw_m2 22 rfl) rfl
theorem q380 : (Jvm.Cond.fieldLinkNest "GangColumns" (205 : Nat) "GangColumns$Cluster" "promises" "LGangColumns$Promises;" "GangColumns") ∈ lw_tbl := lw_at lw_m2 23 rfl
theorem q381 : (Jvm.Cond.fieldLink "GangColumns$Cluster" (72 : Nat) "GangColumns$Cluster" "had" "LGangColumns$Promises;") ∈ lw_all := lw_g (lw_at lw_m2 24 rfl) rfl
theorem q382 : (Jvm.Cond.fieldLink "GangColumns$Cluster" (75 : Nat) "GangColumns$Cluster" "depth" "I") ∈ lw_all := lw_g (lw_at lw_m2 25 rfl) rfl
theorem q383 : (Jvm.Cond.fieldLinkNest "GangColumns" (105 : Nat) "GangColumns$Cluster" "depth" "I" "GangColumns") ∈ lw_tbl := lw_at lw_m2 26 rfl
theorem q384 : (Jvm.Cond.fieldLink "GangColumns$Cluster" (79 : Nat) "GangColumns$Cluster" "window" "I") ∈ lw_all := lw_g (lw_at lw_m2 27 rfl) rfl
theorem q385 : (Jvm.Cond.fieldLinkNest "GangColumns" (108 : Nat) "GangColumns$Cluster" "window" "I" "GangColumns") ∈ lw_tbl := lw_at lw_m2 28 rfl
theorem q386 : (Jvm.Cond.fieldLink "GangColumns$Cluster" (197 : Nat) "GangColumns$Cluster" "period" "I") ∈ lw_all := lw_g (lw_at lw_m2 29 rfl) rfl
theorem q387 : (Jvm.Cond.fieldLinkNest "GangColumns" (111 : Nat) "GangColumns$Cluster" "period" "I" "GangColumns") ∈ lw_tbl := lw_at lw_m2 30 rfl
theorem q388 : (Jvm.Cond.fieldLink "GangColumns$Cluster" (200 : Nat) "GangColumns$Cluster" "spanMany" "I") ∈ lw_all := lw_g (lw_at lw_m2 31 rfl) rfl
theorem q389 : (Jvm.Cond.fieldLinkNest "GangColumns" (278 : Nat) "GangColumns$Cluster" "spanMany" "I" "GangColumns") ∈ lw_tbl := lw_at lw_m2 32 rfl
theorem q390 : (Jvm.Cond.fieldLinkNest "GangColumns$Moves" (32 : Nat) "GangColumns$Cluster" "now" "I" "GangColumns") ∈ lw_tbl := lw_at lw_m2 33 rfl
theorem q391 : (Jvm.Cond.fieldLink "GangColumns$Cluster" (203 : Nat) "GangColumns$Cluster" "now" "I") ∈ lw_all := lw_g (lw_at lw_m2 34 rfl) rfl
theorem q392 : (Jvm.Cond.fieldLinkNest "GangColumns" (147 : Nat) "GangColumns$Cluster" "now" "I" "GangColumns") ∈ lw_tbl := lw_at lw_m2 35 rfl
theorem q393 : (Jvm.Cond.fieldLink "GangColumns$Cluster" (206 : Nat) "GangColumns$Cluster" "isThought" "Z") ∈ lw_all := lw_g (lw_at lw_m2 36 rfl) rfl
theorem q394 : (Jvm.Cond.fieldLink "GangColumns$Cluster" (82 : Nat) "GangColumns$Cluster" "led" "[J") ∈ lw_all := lw_g (lw_at lw_m2 37 rfl) rfl
theorem q395 : (Jvm.Cond.fieldLinkNest "GangColumns" (478 : Nat) "GangColumns$Cluster" "led" "[J" "GangColumns") ∈ lw_tbl := lw_at lw_m2 38 rfl
theorem q396 : (Jvm.Cond.fieldLink "GangColumns$Cluster" (87 : Nat) "GangColumns$Cluster" "lineNow" "[LGangColumns$Job;") ∈ lw_all := lw_g (lw_at lw_m2 39 rfl) rfl
theorem q397 : (Jvm.Cond.fieldLink "GangColumns$Cluster" (96 : Nat) "GangColumns$Cluster" "inLine" "LGangColumns$Cluster$InLine;") ∈ lw_all := lw_g (lw_at lw_m2 40 rfl) rfl
theorem q398 : (Jvm.Cond.fieldLink "GangColumns$Cluster" (265 : Nat) "GangColumns$Cluster" "lined" "I") ∈ lw_all := lw_g (lw_at lw_m2 41 rfl) rfl
theorem q399 : (Jvm.Cond.fieldLink "GangColumns$Cluster" (100 : Nat) "GangColumns$Cluster" "first" "[I") ∈ lw_all := lw_g (lw_at lw_m2 42 rfl) rfl
theorem q400 : (Jvm.Cond.fieldLink "GangColumns$Cluster" (103 : Nat) "GangColumns$Cluster" "isTaken" "[Z") ∈ lw_all := lw_g (lw_at lw_m2 43 rfl) rfl
theorem q401 : (Jvm.Cond.laysFinal "GangColumns$Cluster" "GangColumns$Cluster" "columns" "[LGangColumns$Column;") ∈ lw_all := lw_g (lw_at lw_m2 44 rfl) rfl
theorem q402 : (Jvm.Cond.soleField "GangColumns$Cluster" "columns") ∈ lw_all := lw_g (lw_at lw_m2 45 rfl) rfl
theorem q403 : (Jvm.Cond.laysFinal "GangColumns$Cluster" "GangColumns$Cluster" "weights" "[I") ∈ lw_all := lw_g (lw_at lw_m2 46 rfl) rfl
theorem q404 : (Jvm.Cond.soleField "GangColumns$Cluster" "weights") ∈ lw_all := lw_g (lw_at lw_m2 47 rfl) rfl
theorem q405 : (Jvm.Cond.laysFinal "GangColumns$Cluster" "GangColumns$Cluster" "limits" "[I") ∈ lw_all := lw_g (lw_at lw_m2 48 rfl) rfl
theorem q406 : (Jvm.Cond.soleField "GangColumns$Cluster" "limits") ∈ lw_all := lw_g (lw_at lw_m2 49 rfl) rfl
theorem q407 : (Jvm.Cond.laysFinal "GangColumns$Cluster" "GangColumns$Cluster" "used" "[J") ∈ lw_all := lw_g (lw_at lw_m2 50 rfl) rfl
theorem q408 : (Jvm.Cond.soleField "GangColumns$Cluster" "used") ∈ lw_all := lw_g (lw_at lw_m2 51 rfl) rfl
theorem q409 : (Jvm.Cond.laysFinal "GangColumns$Cluster" "GangColumns$Cluster" "chart" "[[I") ∈ lw_all := lw_g (lw_at lw_m2 52 rfl) rfl
theorem q410 : (Jvm.Cond.soleField "GangColumns$Cluster" "chart") ∈ lw_all := lw_g (lw_at lw_m2 53 rfl) rfl
theorem q411 : (Jvm.Cond.laysFinal "GangColumns$Cluster" "GangColumns$Cluster" "events" "Ljava/util/ArrayList;") ∈ lw_all := lw_g (lw_at lw_m2 54 rfl) rfl
theorem q412 : (Jvm.Cond.soleField "GangColumns$Cluster" "events") ∈ lw_all := lw_g (lw_at lw_m2 55 rfl) rfl
theorem q413 : (Jvm.Cond.laysFinal "GangColumns$Cluster" "GangColumns$Cluster" "jobs" "Ljava/util/ArrayList;") ∈ lw_all := lw_g (lw_at lw_m2 56 rfl) rfl
theorem q414 : (Jvm.Cond.soleField "GangColumns$Cluster" "jobs") ∈ lw_all := lw_g (lw_at lw_m2 57 rfl) rfl
theorem q415 : (Jvm.Cond.laysFinal "GangColumns$Cluster" "GangColumns$Cluster" "spans" "Ljava/util/TreeMap;") ∈ lw_all := lw_g (lw_at lw_m2 58 rfl) rfl
theorem q416 : (Jvm.Cond.soleField "GangColumns$Cluster" "spans") ∈ lw_all := lw_g (lw_at lw_m2 59 rfl) rfl
theorem q417 : (Jvm.Cond.lays "GangColumns$Cluster" "GangColumns$Cluster" "going" "Ljava/util/PriorityQueue;") ∈ lw_all := lw_g (lw_at lw_m2 60 rfl) rfl
theorem q418 : (Jvm.Cond.soleField "GangColumns$Cluster" "going") ∈ lw_all := lw_g (lw_at lw_m2 61 rfl) rfl
theorem q419 : (Jvm.Cond.laysFinal "GangColumns$Cluster" "GangColumns$Cluster" "started" "Ljava/util/ArrayList;") ∈ lw_all := lw_g (lw_at lw_m2 62 rfl) rfl
theorem q420 : (Jvm.Cond.soleField "GangColumns$Cluster" "started") ∈ lw_all := lw_g (lw_at lw_m2 63 rfl) rfl
theorem q421 : (Jvm.Cond.lays "GangColumns$Cluster" "GangColumns$Cluster" "promises" "LGangColumns$Promises;") ∈ lw_all := lw_g (lw_at lw_m2 64 rfl) rfl
theorem q422 : (Jvm.Cond.soleField "GangColumns$Cluster" "promises") ∈ lw_all := lw_g (lw_at lw_m2 65 rfl) rfl
theorem q423 : (Jvm.Cond.lays "GangColumns$Cluster" "GangColumns$Cluster" "had" "LGangColumns$Promises;") ∈ lw_all := lw_g (lw_at lw_m2 66 rfl) rfl
theorem q424 : (Jvm.Cond.soleField "GangColumns$Cluster" "had") ∈ lw_all := lw_g (lw_at lw_m2 67 rfl) rfl
theorem q425 : (Jvm.Cond.lays "GangColumns$Cluster" "GangColumns$Cluster" "depth" "I") ∈ lw_all := lw_g (lw_at lw_m2 68 rfl) rfl
theorem q426 : (Jvm.Cond.soleField "GangColumns$Cluster" "depth") ∈ lw_all := lw_g (lw_at lw_m2 69 rfl) rfl
theorem q427 : (Jvm.Cond.lays "GangColumns$Cluster" "GangColumns$Cluster" "window" "I") ∈ lw_all := lw_g (lw_at lw_m2 70 rfl) rfl
theorem q428 : (Jvm.Cond.soleField "GangColumns$Cluster" "window") ∈ lw_all := lw_g (lw_at lw_m2 71 rfl) rfl
theorem q429 : (Jvm.Cond.lays "GangColumns$Cluster" "GangColumns$Cluster" "period" "I") ∈ lw_all := lw_g (lw_at lw_m2 72 rfl) rfl
theorem q430 : (Jvm.Cond.soleField "GangColumns$Cluster" "period") ∈ lw_all := lw_g (lw_at lw_m2 73 rfl) rfl
theorem q431 : (Jvm.Cond.lays "GangColumns$Cluster" "GangColumns$Cluster" "spanMany" "I") ∈ lw_all := lw_g (lw_at lw_m2 74 rfl) rfl
theorem q432 : (Jvm.Cond.soleField "GangColumns$Cluster" "spanMany") ∈ lw_all := lw_g (lw_at lw_m2 75 rfl) rfl
theorem q433 : (Jvm.Cond.lays "GangColumns$Cluster" "GangColumns$Cluster" "now" "I") ∈ lw_all := lw_g (lw_at lw_m2 76 rfl) rfl
theorem q434 : (Jvm.Cond.soleField "GangColumns$Cluster" "now") ∈ lw_all := lw_g (lw_at lw_m2 77 rfl) rfl
theorem q435 : (Jvm.Cond.lays "GangColumns$Cluster" "GangColumns$Cluster" "isThought" "Z") ∈ lw_all := lw_g (lw_at lw_m2 78 rfl) rfl
theorem q436 : (Jvm.Cond.soleField "GangColumns$Cluster" "isThought") ∈ lw_all := lw_g (lw_at lw_m2 79 rfl) rfl
theorem q437 : (Jvm.Cond.laysFinal "GangColumns$Cluster" "GangColumns$Cluster" "led" "[J") ∈ lw_all := lw_g (lw_at lw_m2 80 rfl) rfl
theorem q438 : (Jvm.Cond.soleField "GangColumns$Cluster" "led") ∈ lw_all := lw_g (lw_at lw_m2 81 rfl) rfl
theorem q439 : (Jvm.Cond.laysFinal "GangColumns$Cluster" "GangColumns$Cluster" "lineNow" "[LGangColumns$Job;") ∈ lw_all := lw_g (lw_at lw_m2 82 rfl) rfl
theorem q440 : (Jvm.Cond.soleField "GangColumns$Cluster" "lineNow") ∈ lw_all := lw_g (lw_at lw_m2 83 rfl) rfl
theorem q441 : (Jvm.Cond.laysFinal "GangColumns$Cluster" "GangColumns$Cluster" "inLine" "LGangColumns$Cluster$InLine;") ∈ lw_all := lw_g (lw_at lw_m2 84 rfl) rfl
theorem q442 : (Jvm.Cond.soleField "GangColumns$Cluster" "inLine") ∈ lw_all := lw_g (lw_at lw_m2 85 rfl) rfl
theorem q443 : (Jvm.Cond.lays "GangColumns$Cluster" "GangColumns$Cluster" "lined" "I") ∈ lw_all := lw_g (lw_at lw_m2 86 rfl) rfl
theorem q444 : (Jvm.Cond.soleField "GangColumns$Cluster" "lined") ∈ lw_all := lw_g (lw_at lw_m2 87 rfl) rfl
theorem q445 : (Jvm.Cond.laysFinal "GangColumns$Cluster" "GangColumns$Cluster" "first" "[I") ∈ lw_all := lw_g (lw_at lw_m2 88 rfl) rfl
theorem q446 : (Jvm.Cond.soleField "GangColumns$Cluster" "first") ∈ lw_all := lw_g (lw_at lw_m2 89 rfl) rfl
theorem q447 : (Jvm.Cond.laysFinal "GangColumns$Cluster" "GangColumns$Cluster" "isTaken" "[Z") ∈ lw_all := lw_g (lw_at lw_m2 90 rfl) rfl
theorem q448 : (Jvm.Cond.soleField "GangColumns$Cluster" "isTaken") ∈ lw_all := lw_g (lw_at lw_m2 91 rfl) rfl
theorem q449 : (Jvm.Cond.superclass "GangColumns$Cluster" "java/lang/Object") ∈ lw_all := lw_g (lw_at lw_m2 92 rfl) rfl
theorem q450 : (Jvm.Cond.fieldLink "GangColumns" (9 : Nat) "GangColumns" "tape" "[B") ∈ lw_all := lw_g (lw_at lw_m2 93 rfl) rfl
theorem q451 : (Jvm.Cond.fieldLinkNest "GangColumns$ArmsReader" (29 : Nat) "GangColumns" "tape" "[B" "GangColumns") ∈ lw_tbl := lw_at lw_m2 94 rfl
theorem q452 : (Jvm.Cond.fieldLinkNest "GangColumns$ArmsReader" (26 : Nat) "GangColumns" "length" "I" "GangColumns") ∈ lw_tbl := lw_at lw_m2 95 rfl
theorem q453 : (Jvm.Cond.fieldLink "GangColumns" (35 : Nat) "GangColumns" "length" "I") ∈ lw_all := lw_g (lw_at lw_m2 96 rfl) rfl
theorem q454 : (Jvm.Cond.fieldLink "GangColumns" (16 : Nat) "GangColumns" "cluster" "LGangColumns$Cluster;") ∈ lw_all := lw_g (lw_at lw_m2 97 rfl) rfl
theorem q455 : (Jvm.Cond.fieldLinkNest "GangColumns$Foresight" (22 : Nat) "GangColumns" "cluster" "LGangColumns$Cluster;" "GangColumns") ∈ lw_tbl := lw_at lw_m2 98 rfl
theorem q456 : (Jvm.Cond.fieldLinkNest "GangColumns$Moves" (28 : Nat) "GangColumns" "cluster" "LGangColumns$Cluster;" "GangColumns") ∈ lw_tbl := lw_at lw_m2 99 rfl
theorem q457 : (Jvm.Cond.fieldLinkNest "GangColumns$Orders" (36 : Nat) "GangColumns" "cluster" "LGangColumns$Cluster;" "GangColumns") ∈ lw_tbl := lw_at lw_m2 100 rfl
theorem q458 : (Jvm.Cond.fieldLinkNest "GangColumns$1Holds" (23 : Nat) "GangColumns" "cluster" "LGangColumns$Cluster;" "GangColumns") ∈ lw_tbl := lw_at lw_m2 101 rfl
theorem q459 : (Jvm.Cond.fieldLink "GangColumns" (20 : Nat) "GangColumns" "image" "LGangColumns$Cluster;") ∈ lw_all := lw_g (lw_at lw_m2 102 rfl) rfl
theorem q460 : (Jvm.Cond.laysFinal "GangColumns" "GangColumns" "tape" "[B") ∈ lw_all := lw_g (lw_at lw_m2 103 rfl) rfl
theorem q461 : (Jvm.Cond.soleField "GangColumns" "tape") ∈ lw_all := lw_g (lw_at lw_m2 104 rfl) rfl
theorem q462 : (Jvm.Cond.lays "GangColumns" "GangColumns" "length" "I") ∈ lw_all := lw_g (lw_at lw_m2 105 rfl) rfl
theorem q463 : (Jvm.Cond.soleField "GangColumns" "length") ∈ lw_all := lw_g (lw_at lw_m2 106 rfl) rfl
theorem q464 : (Jvm.Cond.lays "GangColumns" "GangColumns" "cluster" "LGangColumns$Cluster;") ∈ lw_all := lw_g (lw_at lw_m2 107 rfl) rfl
theorem q465 : (Jvm.Cond.soleField "GangColumns" "cluster") ∈ lw_all := lw_g (lw_at lw_m2 108 rfl) rfl
theorem q466 : (Jvm.Cond.lays "GangColumns" "GangColumns" "image" "LGangColumns$Cluster;") ∈ lw_all := lw_g (lw_at lw_m2 109 rfl) rfl
theorem q467 : (Jvm.Cond.soleField "GangColumns" "image") ∈ lw_all := lw_g (lw_at lw_m2 110 rfl) rfl
theorem q468 : (Jvm.Cond.superclass "GangColumns" "java/lang/Object") ∈ lw_all := lw_g (lw_at lw_m2 111 rfl) rfl
theorem q469 : (Jvm.Cond.methodLink "GangColumnsLaw" (36 : Nat) ({ cls := "GangColumns", name := "feed", desc := "(I)I" } : Jvm.MethodName)) ∈ lw_all := lw_g (lw_at lw_m2 112 rfl) rfl
theorem q470 : (Jvm.Cond.instanceMethod ({ cls := "GangColumns", name := "feed", desc := "(I)I" } : Jvm.MethodName)) ∈ lw_all := lw_g (lw_at lw_m2 113 rfl) rfl
theorem q471 : (Jvm.Cond.selects "GangColumns" ({ cls := "GangColumns", name := "feed", desc := "(I)I" } : Jvm.MethodName) ({ cls := "GangColumns", name := "feed", desc := "(I)I" } : Jvm.MethodName)) ∈ lw_all := lw_g (lw_at lw_m2 114 rfl) rfl
theorem q472 : (Jvm.Cond.code ({ cls := "GangColumns", name := "feed", desc := "(I)I" } : Jvm.MethodName) prog_1_method_5_code (2 : Nat) (Option.some Jvm.ClassFile.FieldType.int)) ∈ lw_all := lw_g (lw_at lw_m2 115 rfl) rfl
theorem q473 : (Jvm.Cond.constantLong "GangColumns" (31 : Nat) (32 : Int64)) ∈ lw_all := lw_g (lw_at lw_m2 116 rfl) rfl
theorem q474 : (Jvm.Cond.constantLong "GangColumns" (33 : Nat) (126 : Int64)) ∈ lw_all := lw_g (lw_at lw_m2 117 rfl) rfl
theorem q475 : (Jvm.Cond.methodLink "GangColumns" (25 : Nat) ({ cls := "GangColumns", name := "within", desc := "(JJJ)Z" } : Jvm.MethodName)) ∈ lw_all := lw_g (lw_at lw_m2 118 rfl) rfl
theorem q476 : (Jvm.Cond.static ({ cls := "GangColumns", name := "within", desc := "(JJJ)Z" } : Jvm.MethodName)) ∈ lw_all := lw_g (lw_at lw_m2 119 rfl) rfl
theorem q477 : (Jvm.Cond.code ({ cls := "GangColumns", name := "within", desc := "(JJJ)Z" } : Jvm.MethodName) prog_1_method_2_code (6 : Nat) (Option.some Jvm.ClassFile.FieldType.boolean)) ∈ lw_all := lw_g (lw_at lw_m2 120 rfl) rfl
theorem q478 : (Jvm.Cond.methodLink "GangColumnsLaw" (13 : Nat) ({ cls := "GangColumns", name := "weight", desc := "(II)I" } : Jvm.MethodName)) ∈ lw_all := lw_g (lw_at lw_m2 121 rfl) rfl
theorem q479 : (Jvm.Cond.instanceMethod ({ cls := "GangColumns", name := "weight", desc := "(II)I" } : Jvm.MethodName)) ∈ lw_all := lw_g (lw_at lw_m2 122 rfl) rfl
theorem q480 : (Jvm.Cond.selects "GangColumns" ({ cls := "GangColumns", name := "weight", desc := "(II)I" } : Jvm.MethodName) ({ cls := "GangColumns", name := "weight", desc := "(II)I" } : Jvm.MethodName)) ∈ lw_all := lw_g (lw_at lw_m2 123 rfl) rfl
theorem q481 : (Jvm.Cond.code ({ cls := "GangColumns", name := "weight", desc := "(II)I" } : Jvm.MethodName) prog_1_method_7_code (4 : Nat) (Option.some Jvm.ClassFile.FieldType.int)) ∈ lw_all := lw_g (lw_at lw_m2 124 rfl) rfl
theorem q482 : (Jvm.Cond.methodLink "GangColumns" (55 : Nat) ({ cls := "GangColumns", name := "isAccount", desc := "(I)Z" } : Jvm.MethodName)) ∈ lw_all := lw_g (lw_at lw_m2 125 rfl) rfl
theorem q483 : (Jvm.Cond.static ({ cls := "GangColumns", name := "isAccount", desc := "(I)Z" } : Jvm.MethodName)) ∈ lw_all := lw_g (lw_at lw_m2 126 rfl) rfl
theorem q484 : (Jvm.Cond.code ({ cls := "GangColumns", name := "isAccount", desc := "(I)Z" } : Jvm.MethodName) prog_1_method_3_code (1 : Nat) (Option.some Jvm.ClassFile.FieldType.boolean)) ∈ lw_all := lw_g (lw_at lw_m2 127 rfl) rfl
theorem q485 : (Jvm.Cond.constantLong "GangColumns" (23 : Nat) (7 : Int64)) ∈ lw_all := lw_g (lw_at lw_m2 128 rfl) rfl
theorem q486 : (Jvm.Cond.constantLong "GangColumns" (59 : Nat) (100 : Int64)) ∈ lw_all := lw_g (lw_at lw_m2 129 rfl) rfl
theorem q487 : (Jvm.Cond.methodLink "GangColumnsLaw" (18 : Nat) ({ cls := "GangColumns", name := "limit", desc := "(II)I" } : Jvm.MethodName)) ∈ lw_all := lw_g (lw_at lw_m2 130 rfl) rfl
theorem q488 : (Jvm.Cond.instanceMethod ({ cls := "GangColumns", name := "limit", desc := "(II)I" } : Jvm.MethodName)) ∈ lw_all := lw_g (lw_at lw_m2 131 rfl) rfl
theorem q489 : (Jvm.Cond.selects "GangColumns" ({ cls := "GangColumns", name := "limit", desc := "(II)I" } : Jvm.MethodName) ({ cls := "GangColumns", name := "limit", desc := "(II)I" } : Jvm.MethodName)) ∈ lw_all := lw_g (lw_at lw_m2 132 rfl) rfl
theorem q490 : (Jvm.Cond.code ({ cls := "GangColumns", name := "limit", desc := "(II)I" } : Jvm.MethodName) prog_1_method_8_code (4 : Nat) (Option.some Jvm.ClassFile.FieldType.int)) ∈ lw_all := lw_g (lw_at lw_m2 133 rfl) rfl
theorem q491 : (Jvm.Cond.constantLong "GangColumns" (65 : Nat) (16 : Int64)) ∈ lw_all := lw_g (lw_at lw_m2 134 rfl) rfl
theorem q492 : (Jvm.Cond.methodLink "GangColumnsLaw" (22 : Nat) ({ cls := "GangColumns", name := "ranked", desc := "(I)I" } : Jvm.MethodName)) ∈ lw_all := lw_g (lw_at lw_m2 135 rfl) rfl
theorem q493 : (Jvm.Cond.instanceMethod ({ cls := "GangColumns", name := "ranked", desc := "(I)I" } : Jvm.MethodName)) ∈ lw_all := lw_g (lw_at lw_m2 136 rfl) rfl
theorem q494 : (Jvm.Cond.selects "GangColumns" ({ cls := "GangColumns", name := "ranked", desc := "(I)I" } : Jvm.MethodName) ({ cls := "GangColumns", name := "ranked", desc := "(I)I" } : Jvm.MethodName)) ∈ lw_all := lw_g (lw_at lw_m2 137 rfl) rfl
theorem q495 : (Jvm.Cond.code ({ cls := "GangColumns", name := "ranked", desc := "(I)I" } : Jvm.MethodName) prog_1_method_9_code (5 : Nat) (Option.some Jvm.ClassFile.FieldType.int)) ∈ lw_all := lw_g (lw_at lw_m2 138 rfl) rfl
theorem q496 : (Jvm.Cond.methodLink "GangColumns" (70 : Nat) ({ cls := "GangColumns$Cluster", name := "shares", desc := "()Ljava/util/TreeMap;" } : Jvm.MethodName)) ∈ lw_all := lw_g (lw_at lw_m2 139 rfl) rfl
theorem q497 : (Jvm.Cond.instanceMethod ({ cls := "GangColumns$Cluster", name := "shares", desc := "()Ljava/util/TreeMap;" } : Jvm.MethodName)) ∈ lw_all := lw_g (lw_at lw_m2 140 rfl) rfl
theorem q498 : (Jvm.Cond.selects "GangColumns$Cluster" ({ cls := "GangColumns$Cluster", name := "shares", desc := "()Ljava/util/TreeMap;" } : Jvm.MethodName) ({ cls := "GangColumns$Cluster", name := "shares", desc := "()Ljava/util/TreeMap;" } : Jvm.MethodName)) ∈ lw_all := lw_g (lw_at lw_m2 141 rfl) rfl
theorem q499 : (Jvm.Cond.code ({ cls := "GangColumns$Cluster", name := "shares", desc := "()Ljava/util/TreeMap;" } : Jvm.MethodName) prog_8_method_6_code (3 : Nat) (Option.some (Jvm.ClassFile.FieldType.object "java/util/TreeMap"))) ∈ lw_all := lw_g (lw_at lw_m2 142 rfl) rfl
theorem q500 : (Jvm.Cond.methodLink "GangColumns$Cluster" (241 : Nat) ({ cls := "GangColumns$Cluster", name := "shareOf", desc := "(I)LGangColumns$Share;" } : Jvm.MethodName)) ∈ lw_all := lw_g (lw_at lw_m2 143 rfl) rfl
theorem q501 : (Jvm.Cond.privateMethod ({ cls := "GangColumns$Cluster", name := "shareOf", desc := "(I)LGangColumns$Share;" } : Jvm.MethodName)) ∈ lw_tbl := lw_at lw_m2 144 rfl
theorem q502 : (Jvm.Cond.instanceMethod ({ cls := "GangColumns$Cluster", name := "shareOf", desc := "(I)LGangColumns$Share;" } : Jvm.MethodName)) ∈ lw_all := lw_g (lw_at lw_m2 145 rfl) rfl
theorem q503 : (Jvm.Cond.code ({ cls := "GangColumns$Cluster", name := "shareOf", desc := "(I)LGangColumns$Share;" } : Jvm.MethodName) prog_8_method_5_code (2 : Nat) (Option.some (Jvm.ClassFile.FieldType.object "GangColumns$Share"))) ∈ lw_all := lw_g (lw_at lw_m2 146 rfl) rfl
theorem q504 : (Jvm.Cond.classLink "GangColumns$Cluster" (236 : Nat) "GangColumns$Share") ∈ lw_all := lw_g (lw_at lw_m2 147 rfl) rfl
theorem q505 : (Jvm.Cond.instantiable "GangColumns$Share" (3 : Nat)) ∈ lw_all := lw_g (lw_at lw_m2 148 rfl) rfl
theorem q506 : (Jvm.Cond.methodLink "GangColumns$Cluster" (238 : Nat) ({ cls := "GangColumns$Share", name := "<init>", desc := "(IJI)V" } : Jvm.MethodName)) ∈ lw_all := lw_g (lw_at lw_m2 149 rfl) rfl
theorem q507 : (Jvm.Cond.instanceMethod ({ cls := "GangColumns$Share", name := "<init>", desc := "(IJI)V" } : Jvm.MethodName)) ∈ lw_all := lw_g (lw_at lw_m2 150 rfl) rfl
theorem q508 : (Jvm.Cond.code ({ cls := "GangColumns$Share", name := "<init>", desc := "(IJI)V" } : Jvm.MethodName) prog_27_method_1_code (5 : Nat) (Option.none : Option Jvm.ClassFile.FieldType)) ∈ lw_all := lw_g (lw_at lw_m2 151 rfl) rfl
theorem q509 : (Jvm.Cond.methodLink "GangColumns$Share" (1 : Nat) ({ cls := "java/lang/Object", name := "<init>", desc := "()V" } : Jvm.MethodName)) ∈ lw_all := lw_g (lw_at lw_m2 152 rfl) rfl
theorem q510 : (Jvm.Cond.fieldLink "GangColumns$Share" (7 : Nat) "GangColumns$Share" "account" "I") ∈ lw_all := lw_g (lw_at lw_m2 153 rfl) rfl
theorem q511 : (Jvm.Cond.fieldLink "GangColumns$Share" (13 : Nat) "GangColumns$Share" "used" "J") ∈ lw_all := lw_g (lw_at lw_m2 154 rfl) rfl
theorem q512 : (Jvm.Cond.fieldLink "GangColumns$Share" (17 : Nat) "GangColumns$Share" "weight" "I") ∈ lw_all := lw_g (lw_at lw_m2 155 rfl) rfl
theorem q513 : (Jvm.Cond.laysFinal "GangColumns$Share" "GangColumns$Share" "account" "I") ∈ lw_all := lw_g (lw_at lw_m2 156 rfl) rfl
theorem q514 : (Jvm.Cond.soleField "GangColumns$Share" "account") ∈ lw_all := lw_g (lw_at lw_m2 157 rfl) rfl
theorem q515 : (Jvm.Cond.laysFinal "GangColumns$Share" "GangColumns$Share" "used" "J") ∈ lw_all := lw_g (lw_at lw_m2 158 rfl) rfl
theorem q516 : (Jvm.Cond.soleField "GangColumns$Share" "used") ∈ lw_all := lw_g (lw_at lw_m2 159 rfl) rfl
theorem q517 : (Jvm.Cond.laysFinal "GangColumns$Share" "GangColumns$Share" "weight" "I") ∈ lw_all := lw_g (lw_at lw_m2 160 rfl) rfl
theorem q518 : (Jvm.Cond.soleField "GangColumns$Share" "weight") ∈ lw_all := lw_g (lw_at lw_m2 161 rfl) rfl
theorem q519 : (Jvm.Cond.superclass "GangColumns$Share" "java/lang/Object") ∈ lw_all := lw_g (lw_at lw_m2 162 rfl) rfl
theorem q520 : (Jvm.Cond.methodLink "GangColumns$Cluster" (156 : Nat) ({ cls := "java/lang/Integer", name := "valueOf", desc := "(I)Ljava/lang/Integer;" } : Jvm.MethodName)) ∈ lw_all := lw_g (lw_at lw_m2 163 rfl) rfl
theorem q521 : (Jvm.Cond.static ({ cls := "java/lang/Integer", name := "valueOf", desc := "(I)Ljava/lang/Integer;" } : Jvm.MethodName)) ∈ lw_all := lw_g (lw_at lw_m2 164 rfl) rfl
theorem q522 : (Jvm.Cond.code ({ cls := "java/lang/Integer", name := "valueOf", desc := "(I)Ljava/lang/Integer;" } : Jvm.MethodName) prog_41_method_22_code (1 : Nat) (Option.some (Jvm.ClassFile.FieldType.object "java/lang/Integer"))) ∈ lw_all := lw_g (lw_at lw_m2 165 rfl) rfl
theorem q523 : (Jvm.Cond.fieldLink "java/lang/Integer" (191 : Nat) "java/lang/Integer$IntegerCache" "high" "I") ∈ lw_all := lw_g (lw_at lw_m2 166 rfl) rfl
theorem q524 : (Jvm.Cond.laysStatic "java/lang/Integer$IntegerCache" "high" "I") ∈ lw_tbl := lw_at lw_m2 167 rfl
theorem q525 : (Jvm.Cond.fieldLink "java/lang/Integer" (195 : Nat) "java/lang/Integer$IntegerCache" "cache" "[Ljava/lang/Integer;") ∈ lw_all := lw_g (lw_at lw_m2 168 rfl) rfl
theorem q526 : (Jvm.Cond.laysStatic "java/lang/Integer$IntegerCache" "cache" "[Ljava/lang/Integer;") ∈ lw_tbl := lw_at lw_m2 169 rfl
theorem q527 : (Jvm.Cond.classLink "java/lang/Integer" (1 : Nat) "java/lang/Integer") ∈ lw_all := lw_g (lw_at lw_m2 170 rfl) rfl
theorem q528 : (Jvm.Cond.instantiable "java/lang/Integer" (1 : Nat)) ∈ lw_all := lw_g (lw_at lw_m2 171 rfl) rfl
theorem q529 : (Jvm.Cond.methodLink "java/lang/Integer" (199 : Nat) ({ cls := "java/lang/Integer", name := "<init>", desc := "(I)V" } : Jvm.MethodName)) ∈ lw_all := lw_g (lw_at lw_m2 172 rfl) rfl
theorem q530 : (Jvm.Cond.instanceMethod ({ cls := "java/lang/Integer", name := "<init>", desc := "(I)V" } : Jvm.MethodName)) ∈ lw_all := lw_g (lw_at lw_m2 173 rfl) rfl
theorem q531 : (Jvm.Cond.code ({ cls := "java/lang/Integer", name := "<init>", desc := "(I)V" } : Jvm.MethodName) prog_41_method_23_code (2 : Nat) (Option.none : Option Jvm.ClassFile.FieldType)) ∈ lw_all := lw_g (lw_at lw_m2 174 rfl) rfl
theorem q532 : (Jvm.Cond.methodLink "java/lang/Integer" (202 : Nat) ({ cls := "java/lang/Number", name := "<init>", desc := "()V" } : Jvm.MethodName)) ∈ lw_all := lw_g (lw_at lw_m2 175 rfl) rfl
theorem q533 : (Jvm.Cond.instanceMethod ({ cls := "java/lang/Number", name := "<init>", desc := "()V" } : Jvm.MethodName)) ∈ lw_all := lw_g (lw_at lw_m2 176 rfl) rfl
theorem q534 : (Jvm.Cond.code ({ cls := "java/lang/Number", name := "<init>", desc := "()V" } : Jvm.MethodName) prog_46_method_1_code (1 : Nat) (Option.none : Option Jvm.ClassFile.FieldType)) ∈ lw_all := lw_g (lw_at lw_m2 177 rfl) rfl
theorem q535 : (Jvm.Cond.methodLink "java/lang/Number" (1 : Nat) ({ cls := "java/lang/Object", name := "<init>", desc := "()V" } : Jvm.MethodName)) ∈ lw_all := lw_g (lw_at lw_m2 178 rfl) rfl
theorem q536 : (Jvm.Cond.fieldLink "java/lang/Integer" (205 : Nat) "java/lang/Integer" "value" "I") ∈ lw_all := lw_g (lw_at lw_m2 179 rfl) rfl
theorem q537 : (Jvm.Cond.laysFinal "java/lang/Integer" "java/lang/Integer" "value" "I") ∈ lw_all := lw_g (lw_at lw_m2 180 rfl) rfl
theorem q538 : (Jvm.Cond.soleField "java/lang/Integer" "value") ∈ lw_all := lw_g (lw_at lw_m2 181 rfl) rfl
theorem q539 : (Jvm.Cond.superclass "java/lang/Integer" "java/lang/Number") ∈ lw_all := lw_g (lw_at lw_m2 182 rfl) rfl
theorem q540 : (Jvm.Cond.methodLink "GangColumns$Cluster" (162 : Nat) ({ cls := "java/util/TreeMap", name := "put", desc := "(Ljava/lang/Object;Ljava/lang/Object;)Ljava/lang/Object;" } : Jvm.MethodName)) ∈ lw_all := lw_g (lw_at lw_m2 183 rfl) rfl
theorem q541 : (Jvm.Cond.instanceMethod ({ cls := "java/util/TreeMap", name := "put", desc := "(Ljava/lang/Object;Ljava/lang/Object;)Ljava/lang/Object;" } : Jvm.MethodName)) ∈ lw_all := lw_g (lw_at lw_m2 184 rfl) rfl
theorem q542 : (Jvm.Cond.selects "java/util/TreeMap" ({ cls := "java/util/TreeMap", name := "put", desc := "(Ljava/lang/Object;Ljava/lang/Object;)Ljava/lang/Object;" } : Jvm.MethodName) ({ cls := "java/util/TreeMap", name := "put", desc := "(Ljava/lang/Object;Ljava/lang/Object;)Ljava/lang/Object;" } : Jvm.MethodName)) ∈ lw_all := lw_g (lw_at lw_m2 185 rfl) rfl
theorem q543 : (Jvm.Cond.code ({ cls := "java/util/TreeMap", name := "put", desc := "(Ljava/lang/Object;Ljava/lang/Object;)Ljava/lang/Object;" } : Jvm.MethodName) prog_83_method_21_code (3 : Nat) (Option.some (Jvm.ClassFile.FieldType.object "java/lang/Object"))) ∈ lw_all := lw_g (lw_at lw_m2 186 rfl) rfl
theorem q544 : (Jvm.Cond.methodLink "java/util/TreeMap" (127 : Nat) ({ cls := "java/util/TreeMap", name := "put", desc := "(Ljava/lang/Object;Ljava/lang/Object;Z)Ljava/lang/Object;" } : Jvm.MethodName)) ∈ lw_all := lw_g (lw_at lw_m2 187 rfl) rfl
theorem q545 : (Jvm.Cond.privateMethod ({ cls := "java/util/TreeMap", name := "put", desc := "(Ljava/lang/Object;Ljava/lang/Object;Z)Ljava/lang/Object;" } : Jvm.MethodName)) ∈ lw_tbl := lw_at lw_m2 188 rfl
theorem q546 : (Jvm.Cond.instanceMethod ({ cls := "java/util/TreeMap", name := "put", desc := "(Ljava/lang/Object;Ljava/lang/Object;Z)Ljava/lang/Object;" } : Jvm.MethodName)) ∈ lw_all := lw_g (lw_at lw_m2 189 rfl) rfl
theorem q547 : (Jvm.Cond.code ({ cls := "java/util/TreeMap", name := "put", desc := "(Ljava/lang/Object;Ljava/lang/Object;Z)Ljava/lang/Object;" } : Jvm.MethodName) prog_83_method_31_code (10 : Nat) (Option.some (Jvm.ClassFile.FieldType.object "java/lang/Object"))) ∈ lw_all := lw_g (lw_at lw_m2 190 rfl) rfl
theorem q548 : (Jvm.Cond.methodLink "java/util/TreeMap" (135 : Nat) ({ cls := "java/util/TreeMap", name := "addEntryToEmptyMap", desc := "(Ljava/lang/Object;Ljava/lang/Object;)V" } : Jvm.MethodName)) ∈ lw_all := lw_g (lw_at lw_m2 191 rfl) rfl
theorem q549 : (Jvm.Cond.privateMethod ({ cls := "java/util/TreeMap", name := "addEntryToEmptyMap", desc := "(Ljava/lang/Object;Ljava/lang/Object;)V" } : Jvm.MethodName)) ∈ lw_tbl := lw_at lw_m2 192 rfl
theorem q550 : (Jvm.Cond.instanceMethod ({ cls := "java/util/TreeMap", name := "addEntryToEmptyMap", desc := "(Ljava/lang/Object;Ljava/lang/Object;)V" } : Jvm.MethodName)) ∈ lw_all := lw_g (lw_at lw_m2 193 rfl) rfl
theorem q551 : (Jvm.Cond.code ({ cls := "java/util/TreeMap", name := "addEntryToEmptyMap", desc := "(Ljava/lang/Object;Ljava/lang/Object;)V" } : Jvm.MethodName) prog_83_method_30_code (3 : Nat) (Option.none : Option Jvm.ClassFile.FieldType)) ∈ lw_all := lw_g (lw_at lw_m2 194 rfl) rfl
theorem q552 : (Jvm.Cond.methodLink "java/util/TreeMap" (123 : Nat) ({ cls := "java/util/TreeMap", name := "compare", desc := "(Ljava/lang/Object;Ljava/lang/Object;)I" } : Jvm.MethodName)) ∈ lw_all := lw_g (lw_at lw_m2 195 rfl) rfl
theorem q553 : (Jvm.Cond.instanceMethod ({ cls := "java/util/TreeMap", name := "compare", desc := "(Ljava/lang/Object;Ljava/lang/Object;)I" } : Jvm.MethodName)) ∈ lw_all := lw_g (lw_at lw_m2 196 rfl) rfl
theorem q554 : (Jvm.Cond.selects "java/util/TreeMap" ({ cls := "java/util/TreeMap", name := "compare", desc := "(Ljava/lang/Object;Ljava/lang/Object;)I" } : Jvm.MethodName) ({ cls := "java/util/TreeMap", name := "compare", desc := "(Ljava/lang/Object;Ljava/lang/Object;)I" } : Jvm.MethodName)) ∈ lw_all := lw_g (lw_at lw_m2 197 rfl) rfl
theorem q555 : (Jvm.Cond.code ({ cls := "java/util/TreeMap", name := "compare", desc := "(Ljava/lang/Object;Ljava/lang/Object;)I" } : Jvm.MethodName) prog_83_method_67_code (3 : Nat) (Option.some Jvm.ClassFile.FieldType.int)) ∈ lw_all := lw_g (lw_at lw_m2 198 rfl) rfl
theorem q556 : (Jvm.Cond.classLink "java/util/TreeMap" (99 : Nat) "java/lang/Comparable") ∈ lw_all := lw_g (lw_at lw_m2 199 rfl) rfl
theorem q557 : (Jvm.Cond.interfaceEntry "java/util/TreeMap" (107 : Nat)) ∈ lw_tbl := lw_at lw_m2 200 rfl
theorem q558 : (Jvm.Cond.methodLink "java/util/TreeMap" (107 : Nat) ({ cls := "java/lang/Comparable", name := "compareTo", desc := "(Ljava/lang/Object;)I" } : Jvm.MethodName)) ∈ lw_all := lw_g (lw_at lw_m2 201 rfl) rfl
theorem q559 : (Jvm.Cond.interfaceMethod "java/lang/Comparable" "java/lang/Comparable" "compareTo" "(Ljava/lang/Object;)I") ∈ lw_tbl := lw_at lw_m2 202 rfl
theorem q560 : (Jvm.Cond.declares ({ cls := "java/lang/Comparable", name := "compareTo", desc := "(Ljava/lang/Object;)I" } : Jvm.MethodName)) ∈ lw_tbl := lw_at lw_m2 203 rfl
theorem q561 : (Jvm.Cond.castable "GangColumns$Kept" "java/lang/Comparable") ∈ lw_tbl := lw_at lw_m2 204 rfl
theorem q562 : (Jvm.Cond.selects "GangColumns$Kept" ({ cls := "java/lang/Comparable", name := "compareTo", desc := "(Ljava/lang/Object;)I" } : Jvm.MethodName) ({ cls := "GangColumns$Hold", name := "compareTo", desc := "(Ljava/lang/Object;)I" } : Jvm.MethodName)) ∈ lw_all := lw_g (lw_at lw_m2 205 rfl) rfl
theorem q563 : (Jvm.Cond.unhidden "GangColumns$Kept" "compareTo" "(Ljava/lang/Object;)I") ∈ lw_tbl := lw_at lw_m2 206 rfl
theorem q564 : (Jvm.Cond.instanceMethod ({ cls := "GangColumns$Hold", name := "compareTo", desc := "(Ljava/lang/Object;)I" } : Jvm.MethodName)) ∈ lw_all := lw_g (lw_at lw_m2 207 rfl) rfl
theorem q565 : (Jvm.Cond.publicMethod ({ cls := "GangColumns$Hold", name := "compareTo", desc := "(Ljava/lang/Object;)I" } : Jvm.MethodName)) ∈ lw_tbl := lw_at lw_m2 208 rfl
theorem q566 : (Jvm.Cond.code ({ cls := "GangColumns$Hold", name := "compareTo", desc := "(Ljava/lang/Object;)I" } : Jvm.MethodName) prog_17_method_7_code (2 : Nat) (Option.some Jvm.ClassFile.FieldType.int)) ∈ lw_all := lw_g (lw_at lw_m2 209 rfl) rfl
theorem q567 : (Jvm.Cond.classLink "GangColumns$Hold" (8 : Nat) "GangColumns$Hold") ∈ lw_all := lw_g (lw_at lw_m2 210 rfl) rfl
theorem q568 : (Jvm.Cond.methodLink "GangColumns$Hold" (23 : Nat) ({ cls := "GangColumns$Hold", name := "compareTo", desc := "(LGangColumns$Hold;)I" } : Jvm.MethodName)) ∈ lw_all := lw_g (lw_at lw_m2 211 rfl) rfl
theorem q569 : (Jvm.Cond.instanceMethod ({ cls := "GangColumns$Hold", name := "compareTo", desc := "(LGangColumns$Hold;)I" } : Jvm.MethodName)) ∈ lw_all := lw_g (lw_at lw_m2 212 rfl) rfl
theorem q570 : (Jvm.Cond.sameMethod "GangColumns$Hold" "GangColumns$Hold" "compareTo" "(LGangColumns$Hold;)I") ∈ lw_all := lw_g (lw_at lw_m2 213 rfl) rfl
theorem q571 : (Jvm.Cond.selects "GangColumns$Kept" ({ cls := "GangColumns$Hold", name := "compareTo", desc := "(LGangColumns$Hold;)I" } : Jvm.MethodName) ({ cls := "GangColumns$Hold", name := "compareTo", desc := "(LGangColumns$Hold;)I" } : Jvm.MethodName)) ∈ lw_all := lw_g (lw_at lw_m2 214 rfl) rfl
theorem q572 : (Jvm.Cond.selects "GangColumns$Promised" ({ cls := "GangColumns$Hold", name := "compareTo", desc := "(LGangColumns$Hold;)I" } : Jvm.MethodName) ({ cls := "GangColumns$Hold", name := "compareTo", desc := "(LGangColumns$Hold;)I" } : Jvm.MethodName)) ∈ lw_all := lw_g (lw_at lw_m2 215 rfl) rfl
theorem q573 : (Jvm.Cond.selects "GangColumns$Runs" ({ cls := "GangColumns$Hold", name := "compareTo", desc := "(LGangColumns$Hold;)I" } : Jvm.MethodName) ({ cls := "GangColumns$Hold", name := "compareTo", desc := "(LGangColumns$Hold;)I" } : Jvm.MethodName)) ∈ lw_all := lw_g (lw_at lw_m2 216 rfl) rfl
theorem q574 : (Jvm.Cond.code ({ cls := "GangColumns$Hold", name := "compareTo", desc := "(LGangColumns$Hold;)I" } : Jvm.MethodName) prog_17_method_6_code (2 : Nat) (Option.some Jvm.ClassFile.FieldType.int)) ∈ lw_all := lw_g (lw_at lw_m2 217 rfl) rfl
theorem q575 : (Jvm.Cond.methodLink "GangColumns$Hold" (16 : Nat) ({ cls := "GangColumns$Hold", name := "kind", desc := "()I" } : Jvm.MethodName)) ∈ lw_all := lw_g (lw_at lw_m2 218 rfl) rfl
theorem q576 : (Jvm.Cond.declares ({ cls := "GangColumns$Hold", name := "kind", desc := "()I" } : Jvm.MethodName)) ∈ lw_tbl := lw_at lw_m2 219 rfl
theorem q577 : (Jvm.Cond.sameMethod "GangColumns$Hold" "GangColumns$Hold" "kind" "()I") ∈ lw_all := lw_g (lw_at lw_m2 220 rfl) rfl
theorem q578 : (Jvm.Cond.selects "GangColumns$Kept" ({ cls := "GangColumns$Hold", name := "kind", desc := "()I" } : Jvm.MethodName) ({ cls := "GangColumns$Kept", name := "kind", desc := "()I" } : Jvm.MethodName)) ∈ lw_all := lw_g (lw_at lw_m2 221 rfl) rfl
theorem q579 : (Jvm.Cond.instanceMethod ({ cls := "GangColumns$Kept", name := "kind", desc := "()I" } : Jvm.MethodName)) ∈ lw_all := lw_g (lw_at lw_m2 222 rfl) rfl
theorem q580 : (Jvm.Cond.code ({ cls := "GangColumns$Kept", name := "kind", desc := "()I" } : Jvm.MethodName) prog_19_method_3_code (1 : Nat) (Option.some Jvm.ClassFile.FieldType.int)) ∈ lw_all := lw_g (lw_at lw_m2 223 rfl) rfl
theorem q581 : (Jvm.Cond.selects "GangColumns$Promised" ({ cls := "GangColumns$Hold", name := "kind", desc := "()I" } : Jvm.MethodName) ({ cls := "GangColumns$Promised", name := "kind", desc := "()I" } : Jvm.MethodName)) ∈ lw_all := lw_g (lw_at lw_m2 224 rfl) rfl
theorem q582 : (Jvm.Cond.instanceMethod ({ cls := "GangColumns$Promised", name := "kind", desc := "()I" } : Jvm.MethodName)) ∈ lw_all := lw_g (lw_at lw_m2 225 rfl) rfl
theorem q583 : (Jvm.Cond.code ({ cls := "GangColumns$Promised", name := "kind", desc := "()I" } : Jvm.MethodName) prog_23_method_3_code (1 : Nat) (Option.some Jvm.ClassFile.FieldType.int)) ∈ lw_all := lw_g (lw_at lw_m2 226 rfl) rfl
theorem q584 : (Jvm.Cond.selects "GangColumns$Runs" ({ cls := "GangColumns$Hold", name := "kind", desc := "()I" } : Jvm.MethodName) ({ cls := "GangColumns$Runs", name := "kind", desc := "()I" } : Jvm.MethodName)) ∈ lw_all := lw_g (lw_at lw_m2 227 rfl) rfl
theorem q585 : (Jvm.Cond.instanceMethod ({ cls := "GangColumns$Runs", name := "kind", desc := "()I" } : Jvm.MethodName)) ∈ lw_all := lw_g (lw_at lw_m2 228 rfl) rfl
theorem q586 : (Jvm.Cond.code ({ cls := "GangColumns$Runs", name := "kind", desc := "()I" } : Jvm.MethodName) prog_26_method_3_code (1 : Nat) (Option.some Jvm.ClassFile.FieldType.int)) ∈ lw_all := lw_g (lw_at lw_m2 229 rfl) rfl
theorem q587 : (Jvm.Cond.methodLink "GangColumns$Hold" (20 : Nat) ({ cls := "GangColumns$Hold", name := "of", desc := "()I" } : Jvm.MethodName)) ∈ lw_all := lw_g (lw_at lw_m2 230 rfl) rfl
theorem q588 : (Jvm.Cond.declares ({ cls := "GangColumns$Hold", name := "of", desc := "()I" } : Jvm.MethodName)) ∈ lw_tbl := lw_at lw_m2 231 rfl
theorem q589 : (Jvm.Cond.sameMethod "GangColumns$Hold" "GangColumns$Hold" "of" "()I") ∈ lw_all := lw_g (lw_at lw_m2 232 rfl) rfl
theorem q590 : (Jvm.Cond.selects "GangColumns$Kept" ({ cls := "GangColumns$Hold", name := "of", desc := "()I" } : Jvm.MethodName) ({ cls := "GangColumns$Kept", name := "of", desc := "()I" } : Jvm.MethodName)) ∈ lw_all := lw_g (lw_at lw_m2 233 rfl) rfl
theorem q591 : (Jvm.Cond.instanceMethod ({ cls := "GangColumns$Kept", name := "of", desc := "()I" } : Jvm.MethodName)) ∈ lw_all := lw_g (lw_at lw_m2 234 rfl) rfl
theorem q592 : (Jvm.Cond.code ({ cls := "GangColumns$Kept", name := "of", desc := "()I" } : Jvm.MethodName) prog_19_method_4_code (1 : Nat) (Option.some Jvm.ClassFile.FieldType.int)) ∈ lw_all := lw_g (lw_at lw_m2 235 rfl) rfl
theorem q593 : (Jvm.Cond.selects "GangColumns$Promised" ({ cls := "GangColumns$Hold", name := "of", desc := "()I" } : Jvm.MethodName) ({ cls := "GangColumns$Promised", name := "of", desc := "()I" } : Jvm.MethodName)) ∈ lw_all := lw_g (lw_at lw_m2 236 rfl) rfl
theorem q594 : (Jvm.Cond.instanceMethod ({ cls := "GangColumns$Promised", name := "of", desc := "()I" } : Jvm.MethodName)) ∈ lw_all := lw_g (lw_at lw_m2 237 rfl) rfl
theorem q595 : (Jvm.Cond.code ({ cls := "GangColumns$Promised", name := "of", desc := "()I" } : Jvm.MethodName) prog_23_method_4_code (1 : Nat) (Option.some Jvm.ClassFile.FieldType.int)) ∈ lw_all := lw_g (lw_at lw_m2 238 rfl) rfl
theorem q596 : (Jvm.Cond.selects "GangColumns$Runs" ({ cls := "GangColumns$Hold", name := "of", desc := "()I" } : Jvm.MethodName) ({ cls := "GangColumns$Runs", name := "of", desc := "()I" } : Jvm.MethodName)) ∈ lw_all := lw_g (lw_at lw_m2 239 rfl) rfl
theorem q597 : (Jvm.Cond.instanceMethod ({ cls := "GangColumns$Runs", name := "of", desc := "()I" } : Jvm.MethodName)) ∈ lw_all := lw_g (lw_at lw_m3 0 rfl) rfl
theorem q598 : (Jvm.Cond.code ({ cls := "GangColumns$Runs", name := "of", desc := "()I" } : Jvm.MethodName) prog_26_method_4_code (1 : Nat) (Option.some Jvm.ClassFile.FieldType.int)) ∈ lw_all := lw_g (lw_at lw_m3 1 rfl) rfl
theorem q599 : (Jvm.Cond.castable "GangColumns$Promised" "java/lang/Comparable") ∈ lw_tbl := lw_at lw_m3 2 rfl
theorem q600 : (Jvm.Cond.selects "GangColumns$Promised" ({ cls := "java/lang/Comparable", name := "compareTo", desc := "(Ljava/lang/Object;)I" } : Jvm.MethodName) ({ cls := "GangColumns$Hold", name := "compareTo", desc := "(Ljava/lang/Object;)I" } : Jvm.MethodName)) ∈ lw_all := lw_g (lw_at lw_m3 3 rfl) rfl
theorem q601 : (Jvm.Cond.unhidden "GangColumns$Promised" "compareTo" "(Ljava/lang/Object;)I") ∈ lw_tbl := lw_at lw_m3 4 rfl
theorem q602 : (Jvm.Cond.castable "GangColumns$Runs" "java/lang/Comparable") ∈ lw_tbl := lw_at lw_m3 5 rfl
theorem q603 : (Jvm.Cond.selects "GangColumns$Runs" ({ cls := "java/lang/Comparable", name := "compareTo", desc := "(Ljava/lang/Object;)I" } : Jvm.MethodName) ({ cls := "GangColumns$Hold", name := "compareTo", desc := "(Ljava/lang/Object;)I" } : Jvm.MethodName)) ∈ lw_all := lw_g (lw_at lw_m3 6 rfl) rfl
theorem q604 : (Jvm.Cond.unhidden "GangColumns$Runs" "compareTo" "(Ljava/lang/Object;)I") ∈ lw_tbl := lw_at lw_m3 7 rfl
theorem q605 : (Jvm.Cond.castable "GangColumns$Share" "java/lang/Comparable") ∈ lw_tbl := lw_at lw_m3 8 rfl
theorem q606 : (Jvm.Cond.selects "GangColumns$Share" ({ cls := "java/lang/Comparable", name := "compareTo", desc := "(Ljava/lang/Object;)I" } : Jvm.MethodName) ({ cls := "GangColumns$Share", name := "compareTo", desc := "(Ljava/lang/Object;)I" } : Jvm.MethodName)) ∈ lw_all := lw_g (lw_at lw_m3 9 rfl) rfl
theorem q607 : (Jvm.Cond.unhidden "GangColumns$Share" "compareTo" "(Ljava/lang/Object;)I") ∈ lw_tbl := lw_at lw_m3 10 rfl
theorem q608 : (Jvm.Cond.instanceMethod ({ cls := "GangColumns$Share", name := "compareTo", desc := "(Ljava/lang/Object;)I" } : Jvm.MethodName)) ∈ lw_all := lw_g (lw_at lw_m3 11 rfl) rfl
theorem q609 : (Jvm.Cond.publicMethod ({ cls := "GangColumns$Share", name := "compareTo", desc := "(Ljava/lang/Object;)I" } : Jvm.MethodName)) ∈ lw_tbl := lw_at lw_m3 12 rfl
theorem q610 : (Jvm.Cond.code ({ cls := "GangColumns$Share", name := "compareTo", desc := "(Ljava/lang/Object;)I" } : Jvm.MethodName) prog_27_method_4_code (2 : Nat) (Option.some Jvm.ClassFile.FieldType.int)) ∈ lw_all := lw_g (lw_at lw_m3 13 rfl) rfl
theorem q611 : (Jvm.Cond.classLink "GangColumns$Share" (8 : Nat) "GangColumns$Share") ∈ lw_all := lw_g (lw_at lw_m3 14 rfl) rfl
theorem q612 : (Jvm.Cond.methodLink "GangColumns$Share" (24 : Nat) ({ cls := "GangColumns$Share", name := "compareTo", desc := "(LGangColumns$Share;)I" } : Jvm.MethodName)) ∈ lw_all := lw_g (lw_at lw_m3 15 rfl) rfl
theorem q613 : (Jvm.Cond.instanceMethod ({ cls := "GangColumns$Share", name := "compareTo", desc := "(LGangColumns$Share;)I" } : Jvm.MethodName)) ∈ lw_all := lw_g (lw_at lw_m3 16 rfl) rfl
theorem q614 : (Jvm.Cond.selects "GangColumns$Share" ({ cls := "GangColumns$Share", name := "compareTo", desc := "(LGangColumns$Share;)I" } : Jvm.MethodName) ({ cls := "GangColumns$Share", name := "compareTo", desc := "(LGangColumns$Share;)I" } : Jvm.MethodName)) ∈ lw_all := lw_g (lw_at lw_m3 17 rfl) rfl
theorem q615 : (Jvm.Cond.code ({ cls := "GangColumns$Share", name := "compareTo", desc := "(LGangColumns$Share;)I" } : Jvm.MethodName) prog_27_method_3_code (3 : Nat) (Option.some Jvm.ClassFile.FieldType.int)) ∈ lw_all := lw_g (lw_at lw_m3 18 rfl) rfl
theorem q616 : (Jvm.Cond.methodLink "GangColumns$Share" (20 : Nat) ({ cls := "GangColumns$Share", name := "comparedTo", desc := "(LGangColumns$Share;)I" } : Jvm.MethodName)) ∈ lw_all := lw_g (lw_at lw_m3 19 rfl) rfl
theorem q617 : (Jvm.Cond.instanceMethod ({ cls := "GangColumns$Share", name := "comparedTo", desc := "(LGangColumns$Share;)I" } : Jvm.MethodName)) ∈ lw_all := lw_g (lw_at lw_m3 20 rfl) rfl
theorem q618 : (Jvm.Cond.selects "GangColumns$Share" ({ cls := "GangColumns$Share", name := "comparedTo", desc := "(LGangColumns$Share;)I" } : Jvm.MethodName) ({ cls := "GangColumns$Share", name := "comparedTo", desc := "(LGangColumns$Share;)I" } : Jvm.MethodName)) ∈ lw_all := lw_g (lw_at lw_m3 21 rfl) rfl
theorem q619 : (Jvm.Cond.code ({ cls := "GangColumns$Share", name := "comparedTo", desc := "(LGangColumns$Share;)I" } : Jvm.MethodName) prog_27_method_2_code (6 : Nat) (Option.some Jvm.ClassFile.FieldType.int)) ∈ lw_all := lw_g (lw_at lw_m3 22 rfl) rfl
theorem q620 : (Jvm.Cond.castable "java/lang/Integer" "java/lang/Comparable") ∈ lw_tbl := lw_at lw_m3 23 rfl
theorem q621 : (Jvm.Cond.selects "java/lang/Integer" ({ cls := "java/lang/Comparable", name := "compareTo", desc := "(Ljava/lang/Object;)I" } : Jvm.MethodName) ({ cls := "java/lang/Integer", name := "compareTo", desc := "(Ljava/lang/Object;)I" } : Jvm.MethodName)) ∈ lw_all := lw_g (lw_at lw_m3 24 rfl) rfl
theorem q622 : (Jvm.Cond.unhidden "java/lang/Integer" "compareTo" "(Ljava/lang/Object;)I") ∈ lw_tbl := lw_at lw_m3 25 rfl
theorem q623 : (Jvm.Cond.instanceMethod ({ cls := "java/lang/Integer", name := "compareTo", desc := "(Ljava/lang/Object;)I" } : Jvm.MethodName)) ∈ lw_all := lw_g (lw_at lw_m3 26 rfl) rfl
theorem q624 : (Jvm.Cond.publicMethod ({ cls := "java/lang/Integer", name := "compareTo", desc := "(Ljava/lang/Object;)I" } : Jvm.MethodName)) ∈ lw_tbl := lw_at lw_m3 27 rfl
theorem q625 : (Jvm.Cond.code ({ cls := "java/lang/Integer", name := "compareTo", desc := "(Ljava/lang/Object;)I" } : Jvm.MethodName) prog_41_method_63_code (2 : Nat) (Option.some Jvm.ClassFile.FieldType.int)) ∈ lw_all := lw_g (lw_at lw_m3 28 rfl) rfl
theorem q626 : (Jvm.Cond.methodLink "java/lang/Integer" (284 : Nat) ({ cls := "java/lang/Integer", name := "compareTo", desc := "(Ljava/lang/Integer;)I" } : Jvm.MethodName)) ∈ lw_all := lw_g (lw_at lw_m3 29 rfl) rfl
theorem q627 : (Jvm.Cond.instanceMethod ({ cls := "java/lang/Integer", name := "compareTo", desc := "(Ljava/lang/Integer;)I" } : Jvm.MethodName)) ∈ lw_all := lw_g (lw_at lw_m3 30 rfl) rfl
theorem q628 : (Jvm.Cond.selects "java/lang/Integer" ({ cls := "java/lang/Integer", name := "compareTo", desc := "(Ljava/lang/Integer;)I" } : Jvm.MethodName) ({ cls := "java/lang/Integer", name := "compareTo", desc := "(Ljava/lang/Integer;)I" } : Jvm.MethodName)) ∈ lw_all := lw_g (lw_at lw_m3 31 rfl) rfl
theorem q629 : (Jvm.Cond.code ({ cls := "java/lang/Integer", name := "compareTo", desc := "(Ljava/lang/Integer;)I" } : Jvm.MethodName) prog_41_method_39_code (2 : Nat) (Option.some Jvm.ClassFile.FieldType.int)) ∈ lw_all := lw_g (lw_at lw_m3 32 rfl) rfl
theorem q630 : (Jvm.Cond.methodLink "java/lang/Integer" (259 : Nat) ({ cls := "java/lang/Integer", name := "compare", desc := "(II)I" } : Jvm.MethodName)) ∈ lw_all := lw_g (lw_at lw_m3 33 rfl) rfl
theorem q631 : (Jvm.Cond.static ({ cls := "java/lang/Integer", name := "compare", desc := "(II)I" } : Jvm.MethodName)) ∈ lw_all := lw_g (lw_at lw_m3 34 rfl) rfl
theorem q632 : (Jvm.Cond.code ({ cls := "java/lang/Integer", name := "compare", desc := "(II)I" } : Jvm.MethodName) prog_41_method_40_code (2 : Nat) (Option.some Jvm.ClassFile.FieldType.int)) ∈ lw_all := lw_g (lw_at lw_m3 35 rfl) rfl
theorem q633 : (Jvm.Cond.castable "java/lang/String" "java/lang/Comparable") ∈ lw_tbl := lw_at lw_m3 36 rfl
theorem q634 : (Jvm.Cond.selects "java/lang/String" ({ cls := "java/lang/Comparable", name := "compareTo", desc := "(Ljava/lang/Object;)I" } : Jvm.MethodName) ({ cls := "java/lang/String", name := "compareTo", desc := "(Ljava/lang/Object;)I" } : Jvm.MethodName)) ∈ lw_all := lw_g (lw_at lw_m3 37 rfl) rfl
theorem q635 : (Jvm.Cond.unhidden "java/lang/String" "compareTo" "(Ljava/lang/Object;)I") ∈ lw_tbl := lw_at lw_m3 38 rfl
theorem q636 : (Jvm.Cond.instanceMethod ({ cls := "java/lang/String", name := "compareTo", desc := "(Ljava/lang/Object;)I" } : Jvm.MethodName)) ∈ lw_all := lw_g (lw_at lw_m3 39 rfl) rfl
theorem q637 : (Jvm.Cond.publicMethod ({ cls := "java/lang/String", name := "compareTo", desc := "(Ljava/lang/Object;)I" } : Jvm.MethodName)) ∈ lw_tbl := lw_at lw_m3 40 rfl
theorem q638 : (Jvm.Cond.code ({ cls := "java/lang/String", name := "compareTo", desc := "(Ljava/lang/Object;)I" } : Jvm.MethodName) prog_47_method_162_code (2 : Nat) (Option.some Jvm.ClassFile.FieldType.int)) ∈ lw_all := lw_g (lw_at lw_m3 41 rfl) rfl
theorem q639 : (Jvm.Cond.classLink "java/lang/String" (10 : Nat) "java/lang/String") ∈ lw_all := lw_g (lw_at lw_m3 42 rfl) rfl
theorem q640 : (Jvm.Cond.methodLink "java/lang/String" (1084 : Nat) ({ cls := "java/lang/String", name := "compareTo", desc := "(Ljava/lang/String;)I" } : Jvm.MethodName)) ∈ lw_all := lw_g (lw_at lw_m3 43 rfl) rfl
theorem q641 : (Jvm.Cond.instanceMethod ({ cls := "java/lang/String", name := "compareTo", desc := "(Ljava/lang/String;)I" } : Jvm.MethodName)) ∈ lw_all := lw_g (lw_at lw_m3 44 rfl) rfl
theorem q642 : (Jvm.Cond.selects "java/lang/String" ({ cls := "java/lang/String", name := "compareTo", desc := "(Ljava/lang/String;)I" } : Jvm.MethodName) ({ cls := "java/lang/String", name := "compareTo", desc := "(Ljava/lang/String;)I" } : Jvm.MethodName)) ∈ lw_all := lw_g (lw_at lw_m3 45 rfl) rfl
theorem q643 : (Jvm.Cond.code ({ cls := "java/lang/String", name := "compareTo", desc := "(Ljava/lang/String;)I" } : Jvm.MethodName) prog_47_method_71_code (5 : Nat) (Option.some Jvm.ClassFile.FieldType.int)) ∈ lw_all := lw_g (lw_at lw_m3 46 rfl) rfl
theorem q644 : (Jvm.Cond.methodLink "java/lang/String" (335 : Nat) ({ cls := "java/lang/String", name := "coder", desc := "()B" } : Jvm.MethodName)) ∈ lw_all := lw_g (lw_at lw_m3 47 rfl) rfl
theorem q645 : (Jvm.Cond.instanceMethod ({ cls := "java/lang/String", name := "coder", desc := "()B" } : Jvm.MethodName)) ∈ lw_all := lw_g (lw_at lw_m3 48 rfl) rfl
theorem q646 : (Jvm.Cond.selects "java/lang/String" ({ cls := "java/lang/String", name := "coder", desc := "()B" } : Jvm.MethodName) ({ cls := "java/lang/String", name := "coder", desc := "()B" } : Jvm.MethodName)) ∈ lw_all := lw_g (lw_at lw_m3 49 rfl) rfl
theorem q647 : (Jvm.Cond.code ({ cls := "java/lang/String", name := "coder", desc := "()B" } : Jvm.MethodName) prog_47_method_152_code (1 : Nat) (Option.some Jvm.ClassFile.FieldType.byte)) ∈ lw_all := lw_g (lw_at lw_m3 50 rfl) rfl
theorem q648 : (Jvm.Cond.fieldLink "java/lang/String" (38 : Nat) "java/lang/String" "COMPACT_STRINGS" "Z") ∈ lw_all := lw_g (lw_at lw_m3 51 rfl) rfl
theorem q649 : (Jvm.Cond.laysStatic "java/lang/String" "COMPACT_STRINGS" "Z") ∈ lw_tbl := lw_at lw_m3 52 rfl
theorem q650 : (Jvm.Cond.methodLink "java/lang/String" (586 : Nat) ({ cls := "java/lang/StringLatin1", name := "compareTo", desc := "([B[B)I" } : Jvm.MethodName)) ∈ lw_all := lw_g (lw_at lw_m3 53 rfl) rfl
theorem q651 : (Jvm.Cond.static ({ cls := "java/lang/StringLatin1", name := "compareTo", desc := "([B[B)I" } : Jvm.MethodName)) ∈ lw_all := lw_g (lw_at lw_m3 54 rfl) rfl
theorem q652 : (Jvm.Cond.code ({ cls := "java/lang/StringLatin1", name := "compareTo", desc := "([B[B)I" } : Jvm.MethodName) prog_49_method_14_code (4 : Nat) (Option.some Jvm.ClassFile.FieldType.int)) ∈ lw_all := lw_g (lw_at lw_m3 55 rfl) rfl
theorem q653 : (Jvm.Cond.methodLink "java/lang/StringLatin1" (34 : Nat) ({ cls := "java/lang/StringLatin1", name := "compareTo", desc := "([B[BII)I" } : Jvm.MethodName)) ∈ lw_all := lw_g (lw_at lw_m3 56 rfl) rfl
theorem q654 : (Jvm.Cond.static ({ cls := "java/lang/StringLatin1", name := "compareTo", desc := "([B[BII)I" } : Jvm.MethodName)) ∈ lw_all := lw_g (lw_at lw_m3 57 rfl) rfl
theorem q655 : (Jvm.Cond.code ({ cls := "java/lang/StringLatin1", name := "compareTo", desc := "([B[BII)I" } : Jvm.MethodName) prog_49_method_15_code (6 : Nat) (Option.some Jvm.ClassFile.FieldType.int)) ∈ lw_all := lw_g (lw_at lw_m3 58 rfl) rfl
theorem q656 : (Jvm.Cond.methodLink "java/lang/StringLatin1" (38 : Nat) ({ cls := "java/lang/Math", name := "min", desc := "(II)I" } : Jvm.MethodName)) ∈ lw_all := lw_g (lw_at lw_m3 59 rfl) rfl
theorem q657 : (Jvm.Cond.static ({ cls := "java/lang/Math", name := "min", desc := "(II)I" } : Jvm.MethodName)) ∈ lw_all := lw_g (lw_at lw_m3 60 rfl) rfl
theorem q658 : (Jvm.Cond.code ({ cls := "java/lang/Math", name := "min", desc := "(II)I" } : Jvm.MethodName) prog_45_method_69_code (2 : Nat) (Option.some Jvm.ClassFile.FieldType.int)) ∈ lw_all := lw_g (lw_at lw_m3 61 rfl) rfl
theorem q659 : (Jvm.Cond.methodLink "java/lang/StringLatin1" (44 : Nat) ({ cls := "jdk/internal/util/ArraysSupport", name := "mismatch", desc := "([B[BI)I" } : Jvm.MethodName)) ∈ lw_all := lw_g (lw_at lw_m3 62 rfl) rfl
theorem q660 : (Jvm.Cond.static ({ cls := "jdk/internal/util/ArraysSupport", name := "mismatch", desc := "([B[BI)I" } : Jvm.MethodName)) ∈ lw_all := lw_g (lw_at lw_m3 63 rfl) rfl
theorem q661 : (Jvm.Cond.code ({ cls := "jdk/internal/util/ArraysSupport", name := "mismatch", desc := "([B[BI)I" } : Jvm.MethodName) prog_96_method_13_code (4 : Nat) (Option.some Jvm.ClassFile.FieldType.int)) ∈ lw_all := lw_g (lw_at lw_m3 64 rfl) rfl
theorem q662 : (Jvm.Cond.fieldLink "jdk/internal/util/ArraysSupport" (126 : Nat) "jdk/internal/misc/Unsafe" "ARRAY_BYTE_BASE_OFFSET" "I") ∈ lw_all := lw_g (lw_at lw_m3 65 rfl) rfl
theorem q663 : (Jvm.Cond.laysStatic "jdk/internal/misc/Unsafe" "ARRAY_BYTE_BASE_OFFSET" "I") ∈ lw_tbl := lw_at lw_m3 66 rfl
theorem q664 : (Jvm.Cond.fieldLink "jdk/internal/util/ArraysSupport" (129 : Nat) "jdk/internal/util/ArraysSupport" "LOG2_ARRAY_BYTE_INDEX_SCALE" "I") ∈ lw_all := lw_g (lw_at lw_m3 67 rfl) rfl
theorem q665 : (Jvm.Cond.laysStatic "jdk/internal/util/ArraysSupport" "LOG2_ARRAY_BYTE_INDEX_SCALE" "I") ∈ lw_tbl := lw_at lw_m3 68 rfl
theorem q666 : (Jvm.Cond.methodLink "jdk/internal/util/ArraysSupport" (122 : Nat) ({ cls := "jdk/internal/util/ArraysSupport", name := "vectorizedMismatch", desc := "(Ljava/lang/Object;JLjava/lang/Object;JII)I" } : Jvm.MethodName)) ∈ lw_all := lw_g (lw_at lw_m3 69 rfl) rfl
theorem q667 : (Jvm.Cond.static ({ cls := "jdk/internal/util/ArraysSupport", name := "vectorizedMismatch", desc := "(Ljava/lang/Object;JLjava/lang/Object;JII)I" } : Jvm.MethodName)) ∈ lw_all := lw_g (lw_at lw_m3 70 rfl) rfl
theorem q668 : (Jvm.Cond.code ({ cls := "jdk/internal/util/ArraysSupport", name := "vectorizedMismatch", desc := "(Ljava/lang/Object;JLjava/lang/Object;JII)I" } : Jvm.MethodName) prog_96_method_3_code (19 : Nat) (Option.some Jvm.ClassFile.FieldType.int)) ∈ lw_all := lw_g (lw_at lw_m3 71 rfl) rfl
theorem q669 : (Jvm.Cond.fieldLink "jdk/internal/util/ArraysSupport" (20 : Nat) "jdk/internal/util/ArraysSupport" "LOG2_ARRAY_LONG_INDEX_SCALE" "I") ∈ lw_all := lw_g (lw_at lw_m3 72 rfl) rfl
theorem q670 : (Jvm.Cond.laysStatic "jdk/internal/util/ArraysSupport" "LOG2_ARRAY_LONG_INDEX_SCALE" "I") ∈ lw_tbl := lw_at lw_m3 73 rfl
theorem q671 : (Jvm.Cond.fieldLink "jdk/internal/util/ArraysSupport" (26 : Nat) "jdk/internal/util/ArraysSupport" "U" "Ljdk/internal/misc/Unsafe;") ∈ lw_all := lw_g (lw_at lw_m3 74 rfl) rfl
theorem q672 : (Jvm.Cond.laysStatic "jdk/internal/util/ArraysSupport" "U" "Ljdk/internal/misc/Unsafe;") ∈ lw_tbl := lw_at lw_m3 75 rfl
theorem q673 : (Jvm.Cond.methodLink "jdk/internal/util/ArraysSupport" (30 : Nat) ({ cls := "jdk/internal/misc/Unsafe", name := "getLongUnaligned", desc := "(Ljava/lang/Object;J)J" } : Jvm.MethodName)) ∈ lw_all := lw_g (lw_at lw_m3 76 rfl) rfl
theorem q674 : (Jvm.Cond.instanceMethod ({ cls := "jdk/internal/misc/Unsafe", name := "getLongUnaligned", desc := "(Ljava/lang/Object;J)J" } : Jvm.MethodName)) ∈ lw_all := lw_g (lw_at lw_m3 77 rfl) rfl
theorem q675 : (Jvm.Cond.selects "jdk/internal/misc/Unsafe" ({ cls := "jdk/internal/misc/Unsafe", name := "getLongUnaligned", desc := "(Ljava/lang/Object;J)J" } : Jvm.MethodName) ({ cls := "jdk/internal/misc/Unsafe", name := "getLongUnaligned", desc := "(Ljava/lang/Object;J)J" } : Jvm.MethodName)) ∈ lw_all := lw_g (lw_at lw_m3 78 rfl) rfl
theorem q676 : (Jvm.Cond.code ({ cls := "jdk/internal/misc/Unsafe", name := "getLongUnaligned", desc := "(Ljava/lang/Object;J)J" } : Jvm.MethodName) prog_94_method_334_code (4 : Nat) (Option.some Jvm.ClassFile.FieldType.long)) ∈ lw_all := lw_g (lw_at lw_m3 79 rfl) rfl
theorem q677 : (Jvm.Cond.constantLong "jdk/internal/misc/Unsafe" (696 : Nat) (7 : Int64)) ∈ lw_all := lw_g (lw_at lw_m3 80 rfl) rfl
theorem q678 : (Jvm.Cond.methodLink "jdk/internal/misc/Unsafe" (27 : Nat) ({ cls := "jdk/internal/misc/Unsafe", name := "getLong", desc := "(Ljava/lang/Object;J)J" } : Jvm.MethodName)) ∈ lw_all := lw_g (lw_at lw_m3 81 rfl) rfl
theorem q679 : (Jvm.Cond.instanceMethod ({ cls := "jdk/internal/misc/Unsafe", name := "getLong", desc := "(Ljava/lang/Object;J)J" } : Jvm.MethodName)) ∈ lw_all := lw_g (lw_at lw_m3 82 rfl) rfl
theorem q680 : (Jvm.Cond.selects "jdk/internal/misc/Unsafe" ({ cls := "jdk/internal/misc/Unsafe", name := "getLong", desc := "(Ljava/lang/Object;J)J" } : Jvm.MethodName) ({ cls := "jdk/internal/misc/Unsafe", name := "getLong", desc := "(Ljava/lang/Object;J)J" } : Jvm.MethodName)) ∈ lw_all := lw_g (lw_at lw_m3 83 rfl) rfl
theorem q681 : (Jvm.Cond.native ({ cls := "jdk/internal/misc/Unsafe", name := "getLong", desc := "(Ljava/lang/Object;J)J" } : Jvm.MethodName)) ∈ lw_all := lw_g (lw_at lw_m3 84 rfl) rfl
theorem q682 : (Jvm.Cond.constantLong "jdk/internal/misc/Unsafe" (349 : Nat) (3 : Int64)) ∈ lw_all := lw_g (lw_at lw_m3 85 rfl) rfl
theorem q683 : (Jvm.Cond.methodLink "jdk/internal/misc/Unsafe" (17 : Nat) ({ cls := "jdk/internal/misc/Unsafe", name := "getInt", desc := "(Ljava/lang/Object;J)I" } : Jvm.MethodName)) ∈ lw_all := lw_g (lw_at lw_m3 86 rfl) rfl
theorem q684 : (Jvm.Cond.instanceMethod ({ cls := "jdk/internal/misc/Unsafe", name := "getInt", desc := "(Ljava/lang/Object;J)I" } : Jvm.MethodName)) ∈ lw_all := lw_g (lw_at lw_m3 87 rfl) rfl
theorem q685 : (Jvm.Cond.selects "jdk/internal/misc/Unsafe" ({ cls := "jdk/internal/misc/Unsafe", name := "getInt", desc := "(Ljava/lang/Object;J)I" } : Jvm.MethodName) ({ cls := "jdk/internal/misc/Unsafe", name := "getInt", desc := "(Ljava/lang/Object;J)I" } : Jvm.MethodName)) ∈ lw_all := lw_g (lw_at lw_m3 88 rfl) rfl
theorem q686 : (Jvm.Cond.native ({ cls := "jdk/internal/misc/Unsafe", name := "getInt", desc := "(Ljava/lang/Object;J)I" } : Jvm.MethodName)) ∈ lw_all := lw_g (lw_at lw_m3 89 rfl) rfl
theorem q687 : (Jvm.Cond.constantLong "jdk/internal/misc/Unsafe" (205 : Nat) (4 : Int64)) ∈ lw_all := lw_g (lw_at lw_m3 90 rfl) rfl
theorem q688 : (Jvm.Cond.methodLink "jdk/internal/misc/Unsafe" (698 : Nat) ({ cls := "jdk/internal/misc/Unsafe", name := "makeLong", desc := "(II)J" } : Jvm.MethodName)) ∈ lw_all := lw_g (lw_at lw_m3 91 rfl) rfl
theorem q689 : (Jvm.Cond.static ({ cls := "jdk/internal/misc/Unsafe", name := "makeLong", desc := "(II)J" } : Jvm.MethodName)) ∈ lw_all := lw_g (lw_at lw_m3 92 rfl) rfl
theorem q690 : (Jvm.Cond.code ({ cls := "jdk/internal/misc/Unsafe", name := "makeLong", desc := "(II)J" } : Jvm.MethodName) prog_94_method_353_code (2 : Nat) (Option.some Jvm.ClassFile.FieldType.long)) ∈ lw_all := lw_g (lw_at lw_m3 93 rfl) rfl
theorem q691 : (Jvm.Cond.methodLink "jdk/internal/misc/Unsafe" (791 : Nat) ({ cls := "jdk/internal/misc/Unsafe", name := "toUnsignedLong", desc := "(I)J" } : Jvm.MethodName)) ∈ lw_all := lw_g (lw_at lw_m3 94 rfl) rfl
theorem q692 : (Jvm.Cond.static ({ cls := "jdk/internal/misc/Unsafe", name := "toUnsignedLong", desc := "(I)J" } : Jvm.MethodName)) ∈ lw_all := lw_g (lw_at lw_m3 95 rfl) rfl
theorem q693 : (Jvm.Cond.code ({ cls := "jdk/internal/misc/Unsafe", name := "toUnsignedLong", desc := "(I)J" } : Jvm.MethodName) prog_94_method_370_code (1 : Nat) (Option.some Jvm.ClassFile.FieldType.long)) ∈ lw_all := lw_g (lw_at lw_m3 96 rfl) rfl
theorem q694 : (Jvm.Cond.constantLong "jdk/internal/misc/Unsafe" (812 : Nat) (4294967295 : Int64)) ∈ lw_all := lw_g (lw_at lw_m3 97 rfl) rfl
theorem q695 : (Jvm.Cond.methodLink "jdk/internal/misc/Unsafe" (784 : Nat) ({ cls := "jdk/internal/misc/Unsafe", name := "pickPos", desc := "(II)I" } : Jvm.MethodName)) ∈ lw_all := lw_g (lw_at lw_m3 98 rfl) rfl
theorem q696 : (Jvm.Cond.static ({ cls := "jdk/internal/misc/Unsafe", name := "pickPos", desc := "(II)I" } : Jvm.MethodName)) ∈ lw_all := lw_g (lw_at lw_m3 99 rfl) rfl
theorem q697 : (Jvm.Cond.code ({ cls := "jdk/internal/misc/Unsafe", name := "pickPos", desc := "(II)I" } : Jvm.MethodName) prog_94_method_350_code (2 : Nat) (Option.some Jvm.ClassFile.FieldType.int)) ∈ lw_all := lw_g (lw_at lw_m3 100 rfl) rfl
theorem q698 : (Jvm.Cond.fieldLink "jdk/internal/misc/Unsafe" (351 : Nat) "jdk/internal/misc/UnsafeConstants" "BIG_ENDIAN" "Z") ∈ lw_all := lw_g (lw_at lw_m3 101 rfl) rfl
theorem q699 : (Jvm.Cond.laysStatic "jdk/internal/misc/UnsafeConstants" "BIG_ENDIAN" "Z") ∈ lw_tbl := lw_at lw_m3 102 rfl
theorem q700 : (Jvm.Cond.methodLink "jdk/internal/misc/Unsafe" (47 : Nat) ({ cls := "jdk/internal/misc/Unsafe", name := "getShort", desc := "(Ljava/lang/Object;J)S" } : Jvm.MethodName)) ∈ lw_all := lw_g (lw_at lw_m3 103 rfl) rfl
theorem q701 : (Jvm.Cond.instanceMethod ({ cls := "jdk/internal/misc/Unsafe", name := "getShort", desc := "(Ljava/lang/Object;J)S" } : Jvm.MethodName)) ∈ lw_all := lw_g (lw_at lw_m3 104 rfl) rfl
theorem q702 : (Jvm.Cond.selects "jdk/internal/misc/Unsafe" ({ cls := "jdk/internal/misc/Unsafe", name := "getShort", desc := "(Ljava/lang/Object;J)S" } : Jvm.MethodName) ({ cls := "jdk/internal/misc/Unsafe", name := "getShort", desc := "(Ljava/lang/Object;J)S" } : Jvm.MethodName)) ∈ lw_all := lw_g (lw_at lw_m3 105 rfl) rfl
theorem q703 : (Jvm.Cond.native ({ cls := "jdk/internal/misc/Unsafe", name := "getShort", desc := "(Ljava/lang/Object;J)S" } : Jvm.MethodName)) ∈ lw_all := lw_g (lw_at lw_m3 106 rfl) rfl
theorem q704 : (Jvm.Cond.constantLong "jdk/internal/misc/Unsafe" (203 : Nat) (2 : Int64)) ∈ lw_all := lw_g (lw_at lw_m3 107 rfl) rfl
theorem q705 : (Jvm.Cond.constantLong "jdk/internal/misc/Unsafe" (702 : Nat) (6 : Int64)) ∈ lw_all := lw_g (lw_at lw_m3 108 rfl) rfl
theorem q706 : (Jvm.Cond.methodLink "jdk/internal/misc/Unsafe" (704 : Nat) ({ cls := "jdk/internal/misc/Unsafe", name := "makeLong", desc := "(SSSS)J" } : Jvm.MethodName)) ∈ lw_all := lw_g (lw_at lw_m3 109 rfl) rfl
theorem q707 : (Jvm.Cond.static ({ cls := "jdk/internal/misc/Unsafe", name := "makeLong", desc := "(SSSS)J" } : Jvm.MethodName)) ∈ lw_all := lw_g (lw_at lw_m3 110 rfl) rfl
theorem q708 : (Jvm.Cond.code ({ cls := "jdk/internal/misc/Unsafe", name := "makeLong", desc := "(SSSS)J" } : Jvm.MethodName) prog_94_method_352_code (4 : Nat) (Option.some Jvm.ClassFile.FieldType.long)) ∈ lw_all := lw_g (lw_at lw_m3 111 rfl) rfl
theorem q709 : (Jvm.Cond.methodLink "jdk/internal/misc/Unsafe" (788 : Nat) ({ cls := "jdk/internal/misc/Unsafe", name := "toUnsignedLong", desc := "(S)J" } : Jvm.MethodName)) ∈ lw_all := lw_g (lw_at lw_m3 112 rfl) rfl
theorem q710 : (Jvm.Cond.static ({ cls := "jdk/internal/misc/Unsafe", name := "toUnsignedLong", desc := "(S)J" } : Jvm.MethodName)) ∈ lw_all := lw_g (lw_at lw_m3 113 rfl) rfl
theorem q711 : (Jvm.Cond.code ({ cls := "jdk/internal/misc/Unsafe", name := "toUnsignedLong", desc := "(S)J" } : Jvm.MethodName) prog_94_method_369_code (1 : Nat) (Option.some Jvm.ClassFile.FieldType.long)) ∈ lw_all := lw_g (lw_at lw_m3 114 rfl) rfl
theorem q712 : (Jvm.Cond.constantLong "jdk/internal/misc/Unsafe" (810 : Nat) (65535 : Int64)) ∈ lw_all := lw_g (lw_at lw_m3 115 rfl) rfl
theorem q713 : (Jvm.Cond.methodLink "jdk/internal/misc/Unsafe" (39 : Nat) ({ cls := "jdk/internal/misc/Unsafe", name := "getByte", desc := "(Ljava/lang/Object;J)B" } : Jvm.MethodName)) ∈ lw_all := lw_g (lw_at lw_m3 116 rfl) rfl
theorem q714 : (Jvm.Cond.instanceMethod ({ cls := "jdk/internal/misc/Unsafe", name := "getByte", desc := "(Ljava/lang/Object;J)B" } : Jvm.MethodName)) ∈ lw_all := lw_g (lw_at lw_m3 117 rfl) rfl
theorem q715 : (Jvm.Cond.selects "jdk/internal/misc/Unsafe" ({ cls := "jdk/internal/misc/Unsafe", name := "getByte", desc := "(Ljava/lang/Object;J)B" } : Jvm.MethodName) ({ cls := "jdk/internal/misc/Unsafe", name := "getByte", desc := "(Ljava/lang/Object;J)B" } : Jvm.MethodName)) ∈ lw_all := lw_g (lw_at lw_m3 118 rfl) rfl
theorem q716 : (Jvm.Cond.native ({ cls := "jdk/internal/misc/Unsafe", name := "getByte", desc := "(Ljava/lang/Object;J)B" } : Jvm.MethodName)) ∈ lw_all := lw_g (lw_at lw_m3 119 rfl) rfl
theorem q717 : (Jvm.Cond.constantLong "jdk/internal/misc/Unsafe" (707 : Nat) (5 : Int64)) ∈ lw_all := lw_g (lw_at lw_m3 120 rfl) rfl
theorem q718 : (Jvm.Cond.methodLink "jdk/internal/misc/Unsafe" (709 : Nat) ({ cls := "jdk/internal/misc/Unsafe", name := "makeLong", desc := "(BBBBBBBB)J" } : Jvm.MethodName)) ∈ lw_all := lw_g (lw_at lw_m3 121 rfl) rfl
theorem q719 : (Jvm.Cond.static ({ cls := "jdk/internal/misc/Unsafe", name := "makeLong", desc := "(BBBBBBBB)J" } : Jvm.MethodName)) ∈ lw_all := lw_g (lw_at lw_m3 122 rfl) rfl
theorem q720 : (Jvm.Cond.code ({ cls := "jdk/internal/misc/Unsafe", name := "makeLong", desc := "(BBBBBBBB)J" } : Jvm.MethodName) prog_94_method_351_code (8 : Nat) (Option.some Jvm.ClassFile.FieldType.long)) ∈ lw_all := lw_g (lw_at lw_m3 123 rfl) rfl
theorem q721 : (Jvm.Cond.methodLink "jdk/internal/misc/Unsafe" (781 : Nat) ({ cls := "jdk/internal/misc/Unsafe", name := "toUnsignedLong", desc := "(B)J" } : Jvm.MethodName)) ∈ lw_all := lw_g (lw_at lw_m3 124 rfl) rfl
theorem q722 : (Jvm.Cond.static ({ cls := "jdk/internal/misc/Unsafe", name := "toUnsignedLong", desc := "(B)J" } : Jvm.MethodName)) ∈ lw_all := lw_g (lw_at lw_m3 125 rfl) rfl
theorem q723 : (Jvm.Cond.code ({ cls := "jdk/internal/misc/Unsafe", name := "toUnsignedLong", desc := "(B)J" } : Jvm.MethodName) prog_94_method_368_code (1 : Nat) (Option.some Jvm.ClassFile.FieldType.long)) ∈ lw_all := lw_g (lw_at lw_m3 126 rfl) rfl
theorem q724 : (Jvm.Cond.constantLong "jdk/internal/misc/Unsafe" (808 : Nat) (255 : Int64)) ∈ lw_all := lw_g (lw_at lw_m3 127 rfl) rfl
theorem q725 : (Jvm.Cond.fieldLink "jdk/internal/util/ArraysSupport" (36 : Nat) "jdk/internal/util/ArraysSupport" "BIG_ENDIAN" "Z") ∈ lw_all := lw_g (lw_at lw_m3 128 rfl) rfl
theorem q726 : (Jvm.Cond.laysStatic "jdk/internal/util/ArraysSupport" "BIG_ENDIAN" "Z") ∈ lw_tbl := lw_at lw_m3 129 rfl
theorem q727 : (Jvm.Cond.methodLink "jdk/internal/util/ArraysSupport" (40 : Nat) ({ cls := "java/lang/Long", name := "numberOfLeadingZeros", desc := "(J)I" } : Jvm.MethodName)) ∈ lw_all := lw_g (lw_at lw_m3 130 rfl) rfl
theorem q728 : (Jvm.Cond.static ({ cls := "java/lang/Long", name := "numberOfLeadingZeros", desc := "(J)I" } : Jvm.MethodName)) ∈ lw_all := lw_g (lw_at lw_m3 131 rfl) rfl
theorem q729 : (Jvm.Cond.code ({ cls := "java/lang/Long", name := "numberOfLeadingZeros", desc := "(J)I" } : Jvm.MethodName) prog_44_method_48_code (3 : Nat) (Option.some Jvm.ClassFile.FieldType.int)) ∈ lw_all := lw_g (lw_at lw_m3 132 rfl) rfl
theorem q730 : (Jvm.Cond.methodLink "java/lang/Long" (308 : Nat) ({ cls := "java/lang/Integer", name := "numberOfLeadingZeros", desc := "(I)I" } : Jvm.MethodName)) ∈ lw_all := lw_g (lw_at lw_m3 133 rfl) rfl
theorem q731 : (Jvm.Cond.static ({ cls := "java/lang/Integer", name := "numberOfLeadingZeros", desc := "(I)I" } : Jvm.MethodName)) ∈ lw_all := lw_g (lw_at lw_m3 134 rfl) rfl
theorem q732 : (Jvm.Cond.code ({ cls := "java/lang/Integer", name := "numberOfLeadingZeros", desc := "(I)I" } : Jvm.MethodName) prog_41_method_47_code (2 : Nat) (Option.some Jvm.ClassFile.FieldType.int)) ∈ lw_all := lw_g (lw_at lw_m3 135 rfl) rfl
theorem q733 : (Jvm.Cond.constant "java/lang/Integer" (264 : Nat) (65536 : Int32)) ∈ lw_all := lw_g (lw_at lw_m3 136 rfl) rfl
theorem q734 : (Jvm.Cond.fieldLink "jdk/internal/util/ArraysSupport" (46 : Nat) "jdk/internal/util/ArraysSupport" "LOG2_BYTE_BIT_SIZE" "I") ∈ lw_all := lw_g (lw_at lw_m3 137 rfl) rfl
theorem q735 : (Jvm.Cond.laysStatic "jdk/internal/util/ArraysSupport" "LOG2_BYTE_BIT_SIZE" "I") ∈ lw_tbl := lw_at lw_m3 138 rfl
theorem q736 : (Jvm.Cond.methodLink "jdk/internal/util/ArraysSupport" (49 : Nat) ({ cls := "java/lang/Long", name := "numberOfTrailingZeros", desc := "(J)I" } : Jvm.MethodName)) ∈ lw_all := lw_g (lw_at lw_m3 139 rfl) rfl
theorem q737 : (Jvm.Cond.static ({ cls := "java/lang/Long", name := "numberOfTrailingZeros", desc := "(J)I" } : Jvm.MethodName)) ∈ lw_all := lw_g (lw_at lw_m3 140 rfl) rfl
theorem q738 : (Jvm.Cond.code ({ cls := "java/lang/Long", name := "numberOfTrailingZeros", desc := "(J)I" } : Jvm.MethodName) prog_44_method_49_code (3 : Nat) (Option.some Jvm.ClassFile.FieldType.int)) ∈ lw_all := lw_g (lw_at lw_m3 141 rfl) rfl
theorem q739 : (Jvm.Cond.methodLink "java/lang/Long" (311 : Nat) ({ cls := "java/lang/Integer", name := "numberOfTrailingZeros", desc := "(I)I" } : Jvm.MethodName)) ∈ lw_all := lw_g (lw_at lw_m3 142 rfl) rfl
theorem q740 : (Jvm.Cond.static ({ cls := "java/lang/Integer", name := "numberOfTrailingZeros", desc := "(I)I" } : Jvm.MethodName)) ∈ lw_all := lw_g (lw_at lw_m3 143 rfl) rfl
theorem q741 : (Jvm.Cond.code ({ cls := "java/lang/Integer", name := "numberOfTrailingZeros", desc := "(I)I" } : Jvm.MethodName) prog_41_method_48_code (2 : Nat) (Option.some Jvm.ClassFile.FieldType.int)) ∈ lw_all := lw_g (lw_at lw_m3 144 rfl) rfl
theorem q742 : (Jvm.Cond.fieldLink "jdk/internal/util/ArraysSupport" (51 : Nat) "jdk/internal/util/ArraysSupport" "LOG2_ARRAY_INT_INDEX_SCALE" "I") ∈ lw_all := lw_g (lw_at lw_m3 145 rfl) rfl
theorem q743 : (Jvm.Cond.laysStatic "jdk/internal/util/ArraysSupport" "LOG2_ARRAY_INT_INDEX_SCALE" "I") ∈ lw_tbl := lw_at lw_m3 146 rfl
theorem q744 : (Jvm.Cond.methodLink "jdk/internal/util/ArraysSupport" (54 : Nat) ({ cls := "jdk/internal/misc/Unsafe", name := "getIntUnaligned", desc := "(Ljava/lang/Object;J)I" } : Jvm.MethodName)) ∈ lw_all := lw_g (lw_at lw_m3 147 rfl) rfl
theorem q745 : (Jvm.Cond.instanceMethod ({ cls := "jdk/internal/misc/Unsafe", name := "getIntUnaligned", desc := "(Ljava/lang/Object;J)I" } : Jvm.MethodName)) ∈ lw_all := lw_g (lw_at lw_m3 148 rfl) rfl
theorem q746 : (Jvm.Cond.selects "jdk/internal/misc/Unsafe" ({ cls := "jdk/internal/misc/Unsafe", name := "getIntUnaligned", desc := "(Ljava/lang/Object;J)I" } : Jvm.MethodName) ({ cls := "jdk/internal/misc/Unsafe", name := "getIntUnaligned", desc := "(Ljava/lang/Object;J)I" } : Jvm.MethodName)) ∈ lw_all := lw_g (lw_at lw_m3 149 rfl) rfl
theorem q747 : (Jvm.Cond.code ({ cls := "jdk/internal/misc/Unsafe", name := "getIntUnaligned", desc := "(Ljava/lang/Object;J)I" } : Jvm.MethodName) prog_94_method_336_code (4 : Nat) (Option.some Jvm.ClassFile.FieldType.int)) ∈ lw_all := lw_g (lw_at lw_m3 150 rfl) rfl
theorem q748 : (Jvm.Cond.methodLink "jdk/internal/misc/Unsafe" (719 : Nat) ({ cls := "jdk/internal/misc/Unsafe", name := "makeInt", desc := "(SS)I" } : Jvm.MethodName)) ∈ lw_all := lw_g (lw_at lw_m3 151 rfl) rfl
theorem q749 : (Jvm.Cond.static ({ cls := "jdk/internal/misc/Unsafe", name := "makeInt", desc := "(SS)I" } : Jvm.MethodName)) ∈ lw_all := lw_g (lw_at lw_m3 152 rfl) rfl
theorem q750 : (Jvm.Cond.code ({ cls := "jdk/internal/misc/Unsafe", name := "makeInt", desc := "(SS)I" } : Jvm.MethodName) prog_94_method_354_code (2 : Nat) (Option.some Jvm.ClassFile.FieldType.int)) ∈ lw_all := lw_g (lw_at lw_m3 153 rfl) rfl
theorem q751 : (Jvm.Cond.methodLink "jdk/internal/misc/Unsafe" (792 : Nat) ({ cls := "jdk/internal/misc/Unsafe", name := "toUnsignedInt", desc := "(S)I" } : Jvm.MethodName)) ∈ lw_all := lw_g (lw_at lw_m3 154 rfl) rfl
theorem q752 : (Jvm.Cond.static ({ cls := "jdk/internal/misc/Unsafe", name := "toUnsignedInt", desc := "(S)I" } : Jvm.MethodName)) ∈ lw_all := lw_g (lw_at lw_m3 155 rfl) rfl
theorem q753 : (Jvm.Cond.code ({ cls := "jdk/internal/misc/Unsafe", name := "toUnsignedInt", desc := "(S)I" } : Jvm.MethodName) prog_94_method_367_code (1 : Nat) (Option.some Jvm.ClassFile.FieldType.int)) ∈ lw_all := lw_g (lw_at lw_m3 156 rfl) rfl
theorem q754 : (Jvm.Cond.constant "jdk/internal/misc/Unsafe" (374 : Nat) (65535 : Int32)) ∈ lw_all := lw_g (lw_at lw_m3 157 rfl) rfl
theorem q755 : (Jvm.Cond.methodLink "jdk/internal/misc/Unsafe" (723 : Nat) ({ cls := "jdk/internal/misc/Unsafe", name := "makeInt", desc := "(BBBB)I" } : Jvm.MethodName)) ∈ lw_all := lw_g (lw_at lw_m3 158 rfl) rfl
theorem q756 : (Jvm.Cond.static ({ cls := "jdk/internal/misc/Unsafe", name := "makeInt", desc := "(BBBB)I" } : Jvm.MethodName)) ∈ lw_all := lw_g (lw_at lw_m3 159 rfl) rfl
theorem q757 : (Jvm.Cond.code ({ cls := "jdk/internal/misc/Unsafe", name := "makeInt", desc := "(BBBB)I" } : Jvm.MethodName) prog_94_method_355_code (4 : Nat) (Option.some Jvm.ClassFile.FieldType.int)) ∈ lw_all := lw_g (lw_at lw_m3 160 rfl) rfl
theorem q758 : (Jvm.Cond.methodLink "jdk/internal/misc/Unsafe" (796 : Nat) ({ cls := "jdk/internal/misc/Unsafe", name := "toUnsignedInt", desc := "(B)I" } : Jvm.MethodName)) ∈ lw_all := lw_g (lw_at lw_m3 161 rfl) rfl
theorem q759 : (Jvm.Cond.static ({ cls := "jdk/internal/misc/Unsafe", name := "toUnsignedInt", desc := "(B)I" } : Jvm.MethodName)) ∈ lw_all := lw_g (lw_at lw_m3 162 rfl) rfl
theorem q760 : (Jvm.Cond.code ({ cls := "jdk/internal/misc/Unsafe", name := "toUnsignedInt", desc := "(B)I" } : Jvm.MethodName) prog_94_method_366_code (1 : Nat) (Option.some Jvm.ClassFile.FieldType.int)) ∈ lw_all := lw_g (lw_at lw_m3 163 rfl) rfl
theorem q761 : (Jvm.Cond.methodLink "jdk/internal/util/ArraysSupport" (58 : Nat) ({ cls := "java/lang/Integer", name := "numberOfLeadingZeros", desc := "(I)I" } : Jvm.MethodName)) ∈ lw_all := lw_g (lw_at lw_m3 164 rfl) rfl
theorem q762 : (Jvm.Cond.methodLink "jdk/internal/util/ArraysSupport" (11 : Nat) ({ cls := "java/lang/Integer", name := "numberOfTrailingZeros", desc := "(I)I" } : Jvm.MethodName)) ∈ lw_all := lw_g (lw_at lw_m3 165 rfl) rfl
theorem q763 : (Jvm.Cond.methodLink "java/lang/StringLatin1" (50 : Nat) ({ cls := "java/lang/StringLatin1", name := "getChar", desc := "([BI)C" } : Jvm.MethodName)) ∈ lw_all := lw_g (lw_at lw_m3 166 rfl) rfl
theorem q764 : (Jvm.Cond.static ({ cls := "java/lang/StringLatin1", name := "getChar", desc := "([BI)C" } : Jvm.MethodName)) ∈ lw_all := lw_g (lw_at lw_m3 167 rfl) rfl
theorem q765 : (Jvm.Cond.code ({ cls := "java/lang/StringLatin1", name := "getChar", desc := "([BI)C" } : Jvm.MethodName) prog_49_method_44_code (2 : Nat) (Option.some Jvm.ClassFile.FieldType.char)) ∈ lw_all := lw_g (lw_at lw_m3 168 rfl) rfl
theorem q766 : (Jvm.Cond.methodLink "java/lang/String" (590 : Nat) ({ cls := "java/lang/StringUTF16", name := "compareTo", desc := "([B[B)I" } : Jvm.MethodName)) ∈ lw_all := lw_g (lw_at lw_m3 169 rfl) rfl
theorem q767 : (Jvm.Cond.static ({ cls := "java/lang/StringUTF16", name := "compareTo", desc := "([B[B)I" } : Jvm.MethodName)) ∈ lw_all := lw_g (lw_at lw_m3 170 rfl) rfl
theorem q768 : (Jvm.Cond.code ({ cls := "java/lang/StringUTF16", name := "compareTo", desc := "([B[B)I" } : Jvm.MethodName) prog_50_method_29_code (4 : Nat) (Option.some Jvm.ClassFile.FieldType.int)) ∈ lw_all := lw_g (lw_at lw_m3 171 rfl) rfl
theorem q769 : (Jvm.Cond.methodLink "java/lang/StringUTF16" (48 : Nat) ({ cls := "java/lang/StringUTF16", name := "length", desc := "([B)I" } : Jvm.MethodName)) ∈ lw_all := lw_g (lw_at lw_m3 172 rfl) rfl
theorem q770 : (Jvm.Cond.static ({ cls := "java/lang/StringUTF16", name := "length", desc := "([B)I" } : Jvm.MethodName)) ∈ lw_all := lw_g (lw_at lw_m3 173 rfl) rfl
theorem q771 : (Jvm.Cond.code ({ cls := "java/lang/StringUTF16", name := "length", desc := "([B)I" } : Jvm.MethodName) prog_50_method_6_code (1 : Nat) (Option.some Jvm.ClassFile.FieldType.int)) ∈ lw_all := lw_g (lw_at lw_m3 174 rfl) rfl
theorem q772 : (Jvm.Cond.methodLink "java/lang/StringUTF16" (176 : Nat) ({ cls := "java/lang/StringUTF16", name := "compareValues", desc := "([B[BII)I" } : Jvm.MethodName)) ∈ lw_all := lw_g (lw_at lw_m3 175 rfl) rfl
theorem q773 : (Jvm.Cond.static ({ cls := "java/lang/StringUTF16", name := "compareValues", desc := "([B[BII)I" } : Jvm.MethodName)) ∈ lw_all := lw_g (lw_at lw_m3 176 rfl) rfl
theorem q774 : (Jvm.Cond.code ({ cls := "java/lang/StringUTF16", name := "compareValues", desc := "([B[BII)I" } : Jvm.MethodName) prog_50_method_31_code (8 : Nat) (Option.some Jvm.ClassFile.FieldType.int)) ∈ lw_all := lw_g (lw_at lw_m3 177 rfl) rfl
theorem q775 : (Jvm.Cond.methodLink "java/lang/StringUTF16" (183 : Nat) ({ cls := "java/lang/Math", name := "min", desc := "(II)I" } : Jvm.MethodName)) ∈ lw_all := lw_g (lw_at lw_m3 178 rfl) rfl
theorem q776 : (Jvm.Cond.methodLink "java/lang/StringUTF16" (71 : Nat) ({ cls := "java/lang/StringUTF16", name := "getChar", desc := "([BI)C" } : Jvm.MethodName)) ∈ lw_all := lw_g (lw_at lw_m3 179 rfl) rfl
theorem q777 : (Jvm.Cond.static ({ cls := "java/lang/StringUTF16", name := "getChar", desc := "([BI)C" } : Jvm.MethodName)) ∈ lw_all := lw_g (lw_at lw_m3 180 rfl) rfl
theorem q778 : (Jvm.Cond.code ({ cls := "java/lang/StringUTF16", name := "getChar", desc := "([BI)C" } : Jvm.MethodName) prog_50_method_5_code (2 : Nat) (Option.some Jvm.ClassFile.FieldType.char)) ∈ lw_all := lw_g (lw_at lw_m3 181 rfl) rfl
theorem q779 : (Jvm.Cond.fieldLink "java/lang/StringUTF16" (44 : Nat) "java/lang/StringUTF16" "$assertionsDisabled" "Z") ∈ lw_all := lw_g (lw_at lw_m3 182 rfl) rfl
theorem q780 : (Jvm.Cond.laysStatic "java/lang/StringUTF16" "$assertionsDisabled" "Z") ∈ lw_tbl := lw_at lw_m3 183 rfl
theorem q781 : (Jvm.Cond.fieldLink "java/lang/StringUTF16" (59 : Nat) "java/lang/StringUTF16" "HI_BYTE_SHIFT" "I") ∈ lw_all := lw_g (lw_at lw_m3 184 rfl) rfl
theorem q782 : (Jvm.Cond.laysStatic "java/lang/StringUTF16" "HI_BYTE_SHIFT" "I") ∈ lw_tbl := lw_at lw_m3 185 rfl
theorem q783 : (Jvm.Cond.fieldLink "java/lang/StringUTF16" (63 : Nat) "java/lang/StringUTF16" "LO_BYTE_SHIFT" "I") ∈ lw_all := lw_g (lw_at lw_m3 186 rfl) rfl
theorem q784 : (Jvm.Cond.laysStatic "java/lang/StringUTF16" "LO_BYTE_SHIFT" "I") ∈ lw_tbl := lw_at lw_m3 187 rfl
theorem q785 : (Jvm.Cond.methodLink "java/lang/String" (591 : Nat) ({ cls := "java/lang/StringLatin1", name := "compareToUTF16", desc := "([B[B)I" } : Jvm.MethodName)) ∈ lw_all := lw_g (lw_at lw_m3 188 rfl) rfl
theorem q786 : (Jvm.Cond.static ({ cls := "java/lang/StringLatin1", name := "compareToUTF16", desc := "([B[B)I" } : Jvm.MethodName)) ∈ lw_all := lw_g (lw_at lw_m3 189 rfl) rfl
theorem q787 : (Jvm.Cond.code ({ cls := "java/lang/StringLatin1", name := "compareToUTF16", desc := "([B[B)I" } : Jvm.MethodName) prog_49_method_16_code (4 : Nat) (Option.some Jvm.ClassFile.FieldType.int)) ∈ lw_all := lw_g (lw_at lw_m3 190 rfl) rfl
theorem q788 : (Jvm.Cond.methodLink "java/lang/StringLatin1" (54 : Nat) ({ cls := "java/lang/StringLatin1", name := "length", desc := "([B)I" } : Jvm.MethodName)) ∈ lw_all := lw_g (lw_at lw_m3 191 rfl) rfl
theorem q789 : (Jvm.Cond.static ({ cls := "java/lang/StringLatin1", name := "length", desc := "([B)I" } : Jvm.MethodName)) ∈ lw_all := lw_g (lw_at lw_m3 192 rfl) rfl
theorem q790 : (Jvm.Cond.code ({ cls := "java/lang/StringLatin1", name := "length", desc := "([B)I" } : Jvm.MethodName) prog_49_method_5_code (1 : Nat) (Option.some Jvm.ClassFile.FieldType.int)) ∈ lw_all := lw_g (lw_at lw_m3 193 rfl) rfl
theorem q791 : (Jvm.Cond.methodLink "java/lang/StringLatin1" (58 : Nat) ({ cls := "java/lang/StringUTF16", name := "length", desc := "([B)I" } : Jvm.MethodName)) ∈ lw_all := lw_g (lw_at lw_m3 194 rfl) rfl
theorem q792 : (Jvm.Cond.methodLink "java/lang/StringLatin1" (59 : Nat) ({ cls := "java/lang/StringLatin1", name := "compareToUTF16Values", desc := "([B[BII)I" } : Jvm.MethodName)) ∈ lw_all := lw_g (lw_at lw_m3 195 rfl) rfl
theorem q793 : (Jvm.Cond.static ({ cls := "java/lang/StringLatin1", name := "compareToUTF16Values", desc := "([B[BII)I" } : Jvm.MethodName)) ∈ lw_all := lw_g (lw_at lw_m3 196 rfl) rfl
theorem q794 : (Jvm.Cond.code ({ cls := "java/lang/StringLatin1", name := "compareToUTF16Values", desc := "([B[BII)I" } : Jvm.MethodName) prog_49_method_18_code (8 : Nat) (Option.some Jvm.ClassFile.FieldType.int)) ∈ lw_all := lw_g (lw_at lw_m3 197 rfl) rfl
theorem q795 : (Jvm.Cond.methodLink "java/lang/StringLatin1" (65 : Nat) ({ cls := "java/lang/StringUTF16", name := "getChar", desc := "([BI)C" } : Jvm.MethodName)) ∈ lw_all := lw_g (lw_at lw_m3 198 rfl) rfl
theorem q796 : (Jvm.Cond.methodLink "java/lang/String" (594 : Nat) ({ cls := "java/lang/StringUTF16", name := "compareToLatin1", desc := "([B[B)I" } : Jvm.MethodName)) ∈ lw_all := lw_g (lw_at lw_m3 199 rfl) rfl
theorem q797 : (Jvm.Cond.static ({ cls := "java/lang/StringUTF16", name := "compareToLatin1", desc := "([B[B)I" } : Jvm.MethodName)) ∈ lw_all := lw_g (lw_at lw_m3 200 rfl) rfl
theorem q798 : (Jvm.Cond.code ({ cls := "java/lang/StringUTF16", name := "compareToLatin1", desc := "([B[B)I" } : Jvm.MethodName) prog_50_method_32_code (2 : Nat) (Option.some Jvm.ClassFile.FieldType.int)) ∈ lw_all := lw_g (lw_at lw_m3 201 rfl) rfl
theorem q799 : (Jvm.Cond.methodLink "java/lang/StringUTF16" (189 : Nat) ({ cls := "java/lang/StringLatin1", name := "compareToUTF16", desc := "([B[B)I" } : Jvm.MethodName)) ∈ lw_all := lw_g (lw_at lw_m3 202 rfl) rfl
theorem q800 : (Jvm.Cond.castable "java/lang/StringBuilder" "java/lang/Comparable") ∈ lw_tbl := lw_at lw_m3 203 rfl
theorem q801 : (Jvm.Cond.selects "java/lang/StringBuilder" ({ cls := "java/lang/Comparable", name := "compareTo", desc := "(Ljava/lang/Object;)I" } : Jvm.MethodName) ({ cls := "java/lang/StringBuilder", name := "compareTo", desc := "(Ljava/lang/Object;)I" } : Jvm.MethodName)) ∈ lw_all := lw_g (lw_at lw_m3 204 rfl) rfl
theorem q802 : (Jvm.Cond.unhidden "java/lang/StringBuilder" "compareTo" "(Ljava/lang/Object;)I") ∈ lw_tbl := lw_at lw_m3 205 rfl
theorem q803 : (Jvm.Cond.instanceMethod ({ cls := "java/lang/StringBuilder", name := "compareTo", desc := "(Ljava/lang/Object;)I" } : Jvm.MethodName)) ∈ lw_all := lw_g (lw_at lw_m3 206 rfl) rfl
theorem q804 : (Jvm.Cond.publicMethod ({ cls := "java/lang/StringBuilder", name := "compareTo", desc := "(Ljava/lang/Object;)I" } : Jvm.MethodName)) ∈ lw_tbl := lw_at lw_m3 207 rfl
theorem q805 : (Jvm.Cond.code ({ cls := "java/lang/StringBuilder", name := "compareTo", desc := "(Ljava/lang/Object;)I" } : Jvm.MethodName) prog_48_method_97_code (2 : Nat) (Option.some Jvm.ClassFile.FieldType.int)) ∈ lw_all := lw_g (lw_at lw_m3 208 rfl) rfl
theorem q806 : (Jvm.Cond.classLink "java/lang/StringBuilder" (24 : Nat) "java/lang/StringBuilder") ∈ lw_all := lw_g (lw_at lw_m3 209 rfl) rfl
theorem q807 : (Jvm.Cond.methodLink "java/lang/StringBuilder" (346 : Nat) ({ cls := "java/lang/StringBuilder", name := "compareTo", desc := "(Ljava/lang/StringBuilder;)I" } : Jvm.MethodName)) ∈ lw_all := lw_g (lw_at lw_m3 210 rfl) rfl
theorem q808 : (Jvm.Cond.instanceMethod ({ cls := "java/lang/StringBuilder", name := "compareTo", desc := "(Ljava/lang/StringBuilder;)I" } : Jvm.MethodName)) ∈ lw_all := lw_g (lw_at lw_m3 211 rfl) rfl
theorem q809 : (Jvm.Cond.selects "java/lang/StringBuilder" ({ cls := "java/lang/StringBuilder", name := "compareTo", desc := "(Ljava/lang/StringBuilder;)I" } : Jvm.MethodName) ({ cls := "java/lang/StringBuilder", name := "compareTo", desc := "(Ljava/lang/StringBuilder;)I" } : Jvm.MethodName)) ∈ lw_all := lw_g (lw_at lw_m3 212 rfl) rfl
theorem q810 : (Jvm.Cond.code ({ cls := "java/lang/StringBuilder", name := "compareTo", desc := "(Ljava/lang/StringBuilder;)I" } : Jvm.MethodName) prog_48_method_5_code (2 : Nat) (Option.some Jvm.ClassFile.FieldType.int)) ∈ lw_all := lw_g (lw_at lw_m3 213 rfl) rfl
theorem q811 : (Jvm.Cond.methodLink "java/lang/StringBuilder" (13 : Nat) ({ cls := "java/lang/AbstractStringBuilder", name := "compareTo", desc := "(Ljava/lang/AbstractStringBuilder;)I" } : Jvm.MethodName)) ∈ lw_all := lw_g (lw_at lw_m3 214 rfl) rfl
theorem q812 : (Jvm.Cond.superclass "java/lang/StringBuilder" "java/lang/AbstractStringBuilder") ∈ lw_all := lw_g (lw_at lw_m3 215 rfl) rfl
theorem q813 : (Jvm.Cond.instanceMethod ({ cls := "java/lang/AbstractStringBuilder", name := "compareTo", desc := "(Ljava/lang/AbstractStringBuilder;)I" } : Jvm.MethodName)) ∈ lw_all := lw_g (lw_at lw_m3 216 rfl) rfl
theorem q814 : (Jvm.Cond.code ({ cls := "java/lang/AbstractStringBuilder", name := "compareTo", desc := "(Ljava/lang/AbstractStringBuilder;)I" } : Jvm.MethodName) prog_35_method_5_code (6 : Nat) (Option.some Jvm.ClassFile.FieldType.int)) ∈ lw_all := lw_g (lw_at lw_m3 217 rfl) rfl
theorem q815 : (Jvm.Cond.methodLink "java/lang/AbstractStringBuilder" (83 : Nat) ({ cls := "java/lang/AbstractStringBuilder", name := "isLatin1", desc := "()Z" } : Jvm.MethodName)) ∈ lw_all := lw_g (lw_at lw_m3 218 rfl) rfl
theorem q816 : (Jvm.Cond.instanceMethod ({ cls := "java/lang/AbstractStringBuilder", name := "isLatin1", desc := "()Z" } : Jvm.MethodName)) ∈ lw_all := lw_g (lw_at lw_m3 219 rfl) rfl
theorem q817 : (Jvm.Cond.sameMethod "java/lang/AbstractStringBuilder" "java/lang/AbstractStringBuilder" "isLatin1" "()Z") ∈ lw_all := lw_g (lw_at lw_m3 220 rfl) rfl
theorem q818 : (Jvm.Cond.selects "java/lang/StringBuilder" ({ cls := "java/lang/AbstractStringBuilder", name := "isLatin1", desc := "()Z" } : Jvm.MethodName) ({ cls := "java/lang/AbstractStringBuilder", name := "isLatin1", desc := "()Z" } : Jvm.MethodName)) ∈ lw_all := lw_g (lw_at lw_m3 221 rfl) rfl
theorem q819 : (Jvm.Cond.code ({ cls := "java/lang/AbstractStringBuilder", name := "isLatin1", desc := "()Z" } : Jvm.MethodName) prog_35_method_68_code (1 : Nat) (Option.some Jvm.ClassFile.FieldType.boolean)) ∈ lw_all := lw_g (lw_at lw_m3 222 rfl) rfl
theorem q820 : (Jvm.Cond.fieldLink "java/lang/AbstractStringBuilder" (18 : Nat) "java/lang/String" "COMPACT_STRINGS" "Z") ∈ lw_all := lw_g (lw_at lw_m3 223 rfl) rfl
theorem q821 : (Jvm.Cond.methodLink "java/lang/AbstractStringBuilder" (87 : Nat) ({ cls := "java/lang/StringLatin1", name := "compareTo", desc := "([B[BII)I" } : Jvm.MethodName)) ∈ lw_all := lw_g (lw_at lw_m3 224 rfl) rfl
theorem q822 : (Jvm.Cond.methodLink "java/lang/AbstractStringBuilder" (93 : Nat) ({ cls := "java/lang/StringUTF16", name := "compareTo", desc := "([B[BII)I" } : Jvm.MethodName)) ∈ lw_all := lw_g (lw_at lw_m3 225 rfl) rfl
theorem q823 : (Jvm.Cond.static ({ cls := "java/lang/StringUTF16", name := "compareTo", desc := "([B[BII)I" } : Jvm.MethodName)) ∈ lw_all := lw_g (lw_at lw_m3 226 rfl) rfl
theorem q824 : (Jvm.Cond.code ({ cls := "java/lang/StringUTF16", name := "compareTo", desc := "([B[BII)I" } : Jvm.MethodName) prog_50_method_30_code (4 : Nat) (Option.some Jvm.ClassFile.FieldType.int)) ∈ lw_all := lw_g (lw_at lw_m3 227 rfl) rfl
theorem q825 : (Jvm.Cond.methodLink "java/lang/StringUTF16" (180 : Nat) ({ cls := "java/lang/StringUTF16", name := "checkOffset", desc := "(I[B)V" } : Jvm.MethodName)) ∈ lw_all := lw_g (lw_at lw_m3 228 rfl) rfl
theorem q826 : (Jvm.Cond.static ({ cls := "java/lang/StringUTF16", name := "checkOffset", desc := "(I[B)V" } : Jvm.MethodName)) ∈ lw_all := lw_g (lw_at lw_m3 229 rfl) rfl
theorem q827 : (Jvm.Cond.code ({ cls := "java/lang/StringUTF16", name := "checkOffset", desc := "(I[B)V" } : Jvm.MethodName) prog_50_method_92_code (2 : Nat) (Option.none : Option Jvm.ClassFile.FieldType)) ∈ lw_all := lw_g (lw_at lw_m3 230 rfl) rfl
theorem q828 : (Jvm.Cond.methodLink "java/lang/StringUTF16" (417 : Nat) ({ cls := "java/lang/String", name := "checkOffset", desc := "(II)V" } : Jvm.MethodName)) ∈ lw_all := lw_g (lw_at lw_m3 231 rfl) rfl
theorem q829 : (Jvm.Cond.static ({ cls := "java/lang/String", name := "checkOffset", desc := "(II)V" } : Jvm.MethodName)) ∈ lw_all := lw_g (lw_at lw_m3 232 rfl) rfl
theorem q830 : (Jvm.Cond.code ({ cls := "java/lang/String", name := "checkOffset", desc := "(II)V" } : Jvm.MethodName) prog_47_method_156_code (2 : Nat) (Option.none : Option Jvm.ClassFile.FieldType)) ∈ lw_all := lw_g (lw_at lw_m3 233 rfl) rfl
theorem q831 : (Jvm.Cond.fieldLink "java/lang/String" (1053 : Nat) "jdk/internal/util/Preconditions" "SIOOBE_FORMATTER" "Ljava/util/function/BiFunction;") ∈ lw_all := lw_g (lw_at lw_m3 234 rfl) rfl
theorem q832 : (Jvm.Cond.laysStatic "jdk/internal/util/Preconditions" "SIOOBE_FORMATTER" "Ljava/util/function/BiFunction;") ∈ lw_tbl := lw_at lw_m3 235 rfl
theorem q833 : (Jvm.Cond.methodLink "java/lang/String" (1062 : Nat) ({ cls := "jdk/internal/util/Preconditions", name := "checkFromToIndex", desc := "(IIILjava/util/function/BiFunction;)I" } : Jvm.MethodName)) ∈ lw_all := lw_g (lw_at lw_m3 236 rfl) rfl
theorem q834 : (Jvm.Cond.static ({ cls := "jdk/internal/util/Preconditions", name := "checkFromToIndex", desc := "(IIILjava/util/function/BiFunction;)I" } : Jvm.MethodName)) ∈ lw_all := lw_g (lw_at lw_m3 237 rfl) rfl
theorem q835 : (Jvm.Cond.code ({ cls := "jdk/internal/util/Preconditions", name := "checkFromToIndex", desc := "(IIILjava/util/function/BiFunction;)I" } : Jvm.MethodName) prog_97_method_12_code (4 : Nat) (Option.some Jvm.ClassFile.FieldType.int)) ∈ lw_all := lw_g (lw_at lw_m3 238 rfl) rfl
theorem q836 : (Jvm.Cond.methodLink "java/lang/AbstractStringBuilder" (94 : Nat) ({ cls := "java/lang/StringLatin1", name := "compareToUTF16", desc := "([B[BII)I" } : Jvm.MethodName)) ∈ lw_all := lw_g (lw_at lw_m3 239 rfl) rfl
theorem q837 : (Jvm.Cond.static ({ cls := "java/lang/StringLatin1", name := "compareToUTF16", desc := "([B[BII)I" } : Jvm.MethodName)) ∈ lw_all := lw_g (lw_at lw_m4 0 rfl) rfl
theorem q838 : (Jvm.Cond.code ({ cls := "java/lang/StringLatin1", name := "compareToUTF16", desc := "([B[BII)I" } : Jvm.MethodName) prog_49_method_17_code (4 : Nat) (Option.some Jvm.ClassFile.FieldType.int)) ∈ lw_all := lw_g (lw_at lw_m4 1 rfl) rfl
theorem q839 : (Jvm.Cond.methodLink "java/lang/StringLatin1" (62 : Nat) ({ cls := "java/lang/String", name := "checkOffset", desc := "(II)V" } : Jvm.MethodName)) ∈ lw_all := lw_g (lw_at lw_m4 2 rfl) rfl
theorem q840 : (Jvm.Cond.methodLink "java/lang/AbstractStringBuilder" (97 : Nat) ({ cls := "java/lang/StringUTF16", name := "compareToLatin1", desc := "([B[BII)I" } : Jvm.MethodName)) ∈ lw_all := lw_g (lw_at lw_m4 3 rfl) rfl
theorem q841 : (Jvm.Cond.static ({ cls := "java/lang/StringUTF16", name := "compareToLatin1", desc := "([B[BII)I" } : Jvm.MethodName)) ∈ lw_all := lw_g (lw_at lw_m4 4 rfl) rfl
theorem q842 : (Jvm.Cond.code ({ cls := "java/lang/StringUTF16", name := "compareToLatin1", desc := "([B[BII)I" } : Jvm.MethodName) prog_50_method_33_code (4 : Nat) (Option.some Jvm.ClassFile.FieldType.int)) ∈ lw_all := lw_g (lw_at lw_m4 5 rfl) rfl
theorem q843 : (Jvm.Cond.methodLink "java/lang/StringUTF16" (193 : Nat) ({ cls := "java/lang/StringLatin1", name := "compareToUTF16", desc := "([B[BII)I" } : Jvm.MethodName)) ∈ lw_all := lw_g (lw_at lw_m4 6 rfl) rfl
theorem q844 : (Jvm.Cond.interfaceEntry "java/util/TreeMap" (117 : Nat)) ∈ lw_tbl := lw_at lw_m4 7 rfl
theorem q845 : (Jvm.Cond.methodLink "java/util/TreeMap" (117 : Nat) ({ cls := "java/util/Comparator", name := "compare", desc := "(Ljava/lang/Object;Ljava/lang/Object;)I" } : Jvm.MethodName)) ∈ lw_all := lw_g (lw_at lw_m4 8 rfl) rfl
theorem q846 : (Jvm.Cond.interfaceMethod "java/util/Comparator" "java/util/Comparator" "compare" "(Ljava/lang/Object;Ljava/lang/Object;)I") ∈ lw_tbl := lw_at lw_m4 9 rfl
theorem q847 : (Jvm.Cond.declares ({ cls := "java/util/Comparator", name := "compare", desc := "(Ljava/lang/Object;Ljava/lang/Object;)I" } : Jvm.MethodName)) ∈ lw_tbl := lw_at lw_m4 10 rfl
theorem q848 : (Jvm.Cond.castable "GangColumns$ByEnd" "java/util/Comparator") ∈ lw_tbl := lw_at lw_m4 11 rfl
theorem q849 : (Jvm.Cond.selects "GangColumns$ByEnd" ({ cls := "java/util/Comparator", name := "compare", desc := "(Ljava/lang/Object;Ljava/lang/Object;)I" } : Jvm.MethodName) ({ cls := "GangColumns$ByEnd", name := "compare", desc := "(Ljava/lang/Object;Ljava/lang/Object;)I" } : Jvm.MethodName)) ∈ lw_all := lw_g (lw_at lw_m4 12 rfl) rfl
theorem q850 : (Jvm.Cond.unhidden "GangColumns$ByEnd" "compare" "(Ljava/lang/Object;Ljava/lang/Object;)I") ∈ lw_tbl := lw_at lw_m4 13 rfl
theorem q851 : (Jvm.Cond.instanceMethod ({ cls := "GangColumns$ByEnd", name := "compare", desc := "(Ljava/lang/Object;Ljava/lang/Object;)I" } : Jvm.MethodName)) ∈ lw_all := lw_g (lw_at lw_m4 14 rfl) rfl
theorem q852 : (Jvm.Cond.publicMethod ({ cls := "GangColumns$ByEnd", name := "compare", desc := "(Ljava/lang/Object;Ljava/lang/Object;)I" } : Jvm.MethodName)) ∈ lw_tbl := lw_at lw_m4 15 rfl
theorem q853 : (Jvm.Cond.code ({ cls := "GangColumns$ByEnd", name := "compare", desc := "(Ljava/lang/Object;Ljava/lang/Object;)I" } : Jvm.MethodName) prog_6_method_3_code (3 : Nat) (Option.some Jvm.ClassFile.FieldType.int)) ∈ lw_all := lw_g (lw_at lw_m4 16 rfl) rfl
theorem q854 : (Jvm.Cond.classLink "GangColumns$ByEnd" (8 : Nat) "GangColumns$Going") ∈ lw_all := lw_g (lw_at lw_m4 17 rfl) rfl
theorem q855 : (Jvm.Cond.methodLink "GangColumns$ByEnd" (29 : Nat) ({ cls := "GangColumns$ByEnd", name := "compare", desc := "(LGangColumns$Going;LGangColumns$Going;)I" } : Jvm.MethodName)) ∈ lw_all := lw_g (lw_at lw_m4 18 rfl) rfl
theorem q856 : (Jvm.Cond.instanceMethod ({ cls := "GangColumns$ByEnd", name := "compare", desc := "(LGangColumns$Going;LGangColumns$Going;)I" } : Jvm.MethodName)) ∈ lw_all := lw_g (lw_at lw_m4 19 rfl) rfl
theorem q857 : (Jvm.Cond.selects "GangColumns$ByEnd" ({ cls := "GangColumns$ByEnd", name := "compare", desc := "(LGangColumns$Going;LGangColumns$Going;)I" } : Jvm.MethodName) ({ cls := "GangColumns$ByEnd", name := "compare", desc := "(LGangColumns$Going;LGangColumns$Going;)I" } : Jvm.MethodName)) ∈ lw_all := lw_g (lw_at lw_m4 20 rfl) rfl
theorem q858 : (Jvm.Cond.code ({ cls := "GangColumns$ByEnd", name := "compare", desc := "(LGangColumns$Going;LGangColumns$Going;)I" } : Jvm.MethodName) prog_6_method_2_code (3 : Nat) (Option.some Jvm.ClassFile.FieldType.int)) ∈ lw_all := lw_g (lw_at lw_m4 21 rfl) rfl
theorem q859 : (Jvm.Cond.castable "GangColumns$ByWidth" "java/util/Comparator") ∈ lw_tbl := lw_at lw_m4 22 rfl
theorem q860 : (Jvm.Cond.selects "GangColumns$ByWidth" ({ cls := "java/util/Comparator", name := "compare", desc := "(Ljava/lang/Object;Ljava/lang/Object;)I" } : Jvm.MethodName) ({ cls := "GangColumns$ByWidth", name := "compare", desc := "(Ljava/lang/Object;Ljava/lang/Object;)I" } : Jvm.MethodName)) ∈ lw_all := lw_g (lw_at lw_m4 23 rfl) rfl
theorem q861 : (Jvm.Cond.unhidden "GangColumns$ByWidth" "compare" "(Ljava/lang/Object;Ljava/lang/Object;)I") ∈ lw_tbl := lw_at lw_m4 24 rfl
theorem q862 : (Jvm.Cond.instanceMethod ({ cls := "GangColumns$ByWidth", name := "compare", desc := "(Ljava/lang/Object;Ljava/lang/Object;)I" } : Jvm.MethodName)) ∈ lw_all := lw_g (lw_at lw_m4 25 rfl) rfl
theorem q863 : (Jvm.Cond.publicMethod ({ cls := "GangColumns$ByWidth", name := "compare", desc := "(Ljava/lang/Object;Ljava/lang/Object;)I" } : Jvm.MethodName)) ∈ lw_tbl := lw_at lw_m4 26 rfl
theorem q864 : (Jvm.Cond.code ({ cls := "GangColumns$ByWidth", name := "compare", desc := "(Ljava/lang/Object;Ljava/lang/Object;)I" } : Jvm.MethodName) prog_7_method_3_code (3 : Nat) (Option.some Jvm.ClassFile.FieldType.int)) ∈ lw_all := lw_g (lw_at lw_m4 27 rfl) rfl
theorem q865 : (Jvm.Cond.classLink "GangColumns$ByWidth" (8 : Nat) "GangColumns$Arm") ∈ lw_all := lw_g (lw_at lw_m4 28 rfl) rfl
theorem q866 : (Jvm.Cond.methodLink "GangColumns$ByWidth" (16 : Nat) ({ cls := "GangColumns$ByWidth", name := "compare", desc := "(LGangColumns$Arm;LGangColumns$Arm;)I" } : Jvm.MethodName)) ∈ lw_all := lw_g (lw_at lw_m4 29 rfl) rfl
theorem q867 : (Jvm.Cond.instanceMethod ({ cls := "GangColumns$ByWidth", name := "compare", desc := "(LGangColumns$Arm;LGangColumns$Arm;)I" } : Jvm.MethodName)) ∈ lw_all := lw_g (lw_at lw_m4 30 rfl) rfl
theorem q868 : (Jvm.Cond.selects "GangColumns$ByWidth" ({ cls := "GangColumns$ByWidth", name := "compare", desc := "(LGangColumns$Arm;LGangColumns$Arm;)I" } : Jvm.MethodName) ({ cls := "GangColumns$ByWidth", name := "compare", desc := "(LGangColumns$Arm;LGangColumns$Arm;)I" } : Jvm.MethodName)) ∈ lw_all := lw_g (lw_at lw_m4 31 rfl) rfl
theorem q869 : (Jvm.Cond.code ({ cls := "GangColumns$ByWidth", name := "compare", desc := "(LGangColumns$Arm;LGangColumns$Arm;)I" } : Jvm.MethodName) prog_7_method_2_code (3 : Nat) (Option.some Jvm.ClassFile.FieldType.int)) ∈ lw_all := lw_g (lw_at lw_m4 32 rfl) rfl
theorem q870 : (Jvm.Cond.castable "GangColumns$Cluster$InLine" "java/util/Comparator") ∈ lw_tbl := lw_at lw_m4 33 rfl
theorem q871 : (Jvm.Cond.selects "GangColumns$Cluster$InLine" ({ cls := "java/util/Comparator", name := "compare", desc := "(Ljava/lang/Object;Ljava/lang/Object;)I" } : Jvm.MethodName) ({ cls := "GangColumns$Cluster$InLine", name := "compare", desc := "(Ljava/lang/Object;Ljava/lang/Object;)I" } : Jvm.MethodName)) ∈ lw_all := lw_g (lw_at lw_m4 34 rfl) rfl
theorem q872 : (Jvm.Cond.unhidden "GangColumns$Cluster$InLine" "compare" "(Ljava/lang/Object;Ljava/lang/Object;)I") ∈ lw_tbl := lw_at lw_m4 35 rfl
theorem q873 : (Jvm.Cond.instanceMethod ({ cls := "GangColumns$Cluster$InLine", name := "compare", desc := "(Ljava/lang/Object;Ljava/lang/Object;)I" } : Jvm.MethodName)) ∈ lw_all := lw_g (lw_at lw_m4 36 rfl) rfl
theorem q874 : (Jvm.Cond.publicMethod ({ cls := "GangColumns$Cluster$InLine", name := "compare", desc := "(Ljava/lang/Object;Ljava/lang/Object;)I" } : Jvm.MethodName)) ∈ lw_tbl := lw_at lw_m4 37 rfl
theorem q875 : (Jvm.Cond.code ({ cls := "GangColumns$Cluster$InLine", name := "compare", desc := "(Ljava/lang/Object;Ljava/lang/Object;)I" } : Jvm.MethodName) prog_9_method_3_code (3 : Nat) (Option.some Jvm.ClassFile.FieldType.int)) ∈ lw_all := lw_g (lw_at lw_m4 38 rfl) rfl
theorem q876 : (Jvm.Cond.classLink "GangColumns$Cluster$InLine" (14 : Nat) "GangColumns$Job") ∈ lw_all := lw_g (lw_at lw_m4 39 rfl) rfl
theorem q877 : (Jvm.Cond.methodLink "GangColumns$Cluster$InLine" (35 : Nat) ({ cls := "GangColumns$Cluster$InLine", name := "compare", desc := "(LGangColumns$Job;LGangColumns$Job;)I" } : Jvm.MethodName)) ∈ lw_all := lw_g (lw_at lw_m4 40 rfl) rfl
theorem q878 : (Jvm.Cond.instanceMethod ({ cls := "GangColumns$Cluster$InLine", name := "compare", desc := "(LGangColumns$Job;LGangColumns$Job;)I" } : Jvm.MethodName)) ∈ lw_all := lw_g (lw_at lw_m4 41 rfl) rfl
theorem q879 : (Jvm.Cond.selects "GangColumns$Cluster$InLine" ({ cls := "GangColumns$Cluster$InLine", name := "compare", desc := "(LGangColumns$Job;LGangColumns$Job;)I" } : Jvm.MethodName) ({ cls := "GangColumns$Cluster$InLine", name := "compare", desc := "(LGangColumns$Job;LGangColumns$Job;)I" } : Jvm.MethodName)) ∈ lw_all := lw_g (lw_at lw_m4 42 rfl) rfl
theorem q880 : (Jvm.Cond.code ({ cls := "GangColumns$Cluster$InLine", name := "compare", desc := "(LGangColumns$Job;LGangColumns$Job;)I" } : Jvm.MethodName) prog_9_method_2_code (7 : Nat) (Option.some Jvm.ClassFile.FieldType.int)) ∈ lw_all := lw_g (lw_at lw_m4 43 rfl) rfl
theorem q881 : (Jvm.Cond.castable "GangColumns$WidestGoing" "java/util/Comparator") ∈ lw_tbl := lw_at lw_m4 44 rfl
theorem q882 : (Jvm.Cond.selects "GangColumns$WidestGoing" ({ cls := "java/util/Comparator", name := "compare", desc := "(Ljava/lang/Object;Ljava/lang/Object;)I" } : Jvm.MethodName) ({ cls := "GangColumns$WidestGoing", name := "compare", desc := "(Ljava/lang/Object;Ljava/lang/Object;)I" } : Jvm.MethodName)) ∈ lw_all := lw_g (lw_at lw_m4 45 rfl) rfl
theorem q883 : (Jvm.Cond.unhidden "GangColumns$WidestGoing" "compare" "(Ljava/lang/Object;Ljava/lang/Object;)I") ∈ lw_tbl := lw_at lw_m4 46 rfl
theorem q884 : (Jvm.Cond.instanceMethod ({ cls := "GangColumns$WidestGoing", name := "compare", desc := "(Ljava/lang/Object;Ljava/lang/Object;)I" } : Jvm.MethodName)) ∈ lw_all := lw_g (lw_at lw_m4 47 rfl) rfl
theorem q885 : (Jvm.Cond.publicMethod ({ cls := "GangColumns$WidestGoing", name := "compare", desc := "(Ljava/lang/Object;Ljava/lang/Object;)I" } : Jvm.MethodName)) ∈ lw_tbl := lw_at lw_m4 48 rfl
theorem q886 : (Jvm.Cond.code ({ cls := "GangColumns$WidestGoing", name := "compare", desc := "(Ljava/lang/Object;Ljava/lang/Object;)I" } : Jvm.MethodName) prog_31_method_3_code (3 : Nat) (Option.some Jvm.ClassFile.FieldType.int)) ∈ lw_all := lw_g (lw_at lw_m4 49 rfl) rfl
theorem q887 : (Jvm.Cond.classLink "GangColumns$WidestGoing" (8 : Nat) "GangColumns$Going") ∈ lw_all := lw_g (lw_at lw_m4 50 rfl) rfl
theorem q888 : (Jvm.Cond.methodLink "GangColumns$WidestGoing" (29 : Nat) ({ cls := "GangColumns$WidestGoing", name := "compare", desc := "(LGangColumns$Going;LGangColumns$Going;)I" } : Jvm.MethodName)) ∈ lw_all := lw_g (lw_at lw_m4 51 rfl) rfl
theorem q889 : (Jvm.Cond.instanceMethod ({ cls := "GangColumns$WidestGoing", name := "compare", desc := "(LGangColumns$Going;LGangColumns$Going;)I" } : Jvm.MethodName)) ∈ lw_all := lw_g (lw_at lw_m4 52 rfl) rfl
theorem q890 : (Jvm.Cond.selects "GangColumns$WidestGoing" ({ cls := "GangColumns$WidestGoing", name := "compare", desc := "(LGangColumns$Going;LGangColumns$Going;)I" } : Jvm.MethodName) ({ cls := "GangColumns$WidestGoing", name := "compare", desc := "(LGangColumns$Going;LGangColumns$Going;)I" } : Jvm.MethodName)) ∈ lw_all := lw_g (lw_at lw_m4 53 rfl) rfl
theorem q891 : (Jvm.Cond.code ({ cls := "GangColumns$WidestGoing", name := "compare", desc := "(LGangColumns$Going;LGangColumns$Going;)I" } : Jvm.MethodName) prog_31_method_2_code (3 : Nat) (Option.some Jvm.ClassFile.FieldType.int)) ∈ lw_all := lw_g (lw_at lw_m4 54 rfl) rfl
theorem q892 : (Jvm.Cond.classLink "java/util/TreeMap" (59 : Nat) "java/util/TreeMap$Entry") ∈ lw_all := lw_g (lw_at lw_m4 55 rfl) rfl
theorem q893 : (Jvm.Cond.instantiable "java/util/TreeMap$Entry" (6 : Nat)) ∈ lw_all := lw_g (lw_at lw_m4 56 rfl) rfl
theorem q894 : (Jvm.Cond.methodLink "java/util/TreeMap" (167 : Nat) ({ cls := "java/util/TreeMap$Entry", name := "<init>", desc := "(Ljava/lang/Object;Ljava/lang/Object;Ljava/util/TreeMap$Entry;)V" } : Jvm.MethodName)) ∈ lw_all := lw_g (lw_at lw_m4 57 rfl) rfl
theorem q895 : (Jvm.Cond.instanceMethod ({ cls := "java/util/TreeMap$Entry", name := "<init>", desc := "(Ljava/lang/Object;Ljava/lang/Object;Ljava/util/TreeMap$Entry;)V" } : Jvm.MethodName)) ∈ lw_all := lw_g (lw_at lw_m4 58 rfl) rfl
theorem q896 : (Jvm.Cond.code ({ cls := "java/util/TreeMap$Entry", name := "<init>", desc := "(Ljava/lang/Object;Ljava/lang/Object;Ljava/util/TreeMap$Entry;)V" } : Jvm.MethodName) prog_84_method_1_code (4 : Nat) (Option.none : Option Jvm.ClassFile.FieldType)) ∈ lw_all := lw_g (lw_at lw_m4 59 rfl) rfl
theorem q897 : (Jvm.Cond.methodLink "java/util/TreeMap$Entry" (3 : Nat) ({ cls := "java/lang/Object", name := "<init>", desc := "()V" } : Jvm.MethodName)) ∈ lw_all := lw_g (lw_at lw_m4 60 rfl) rfl
theorem q898 : (Jvm.Cond.fieldLink "java/util/TreeMap$Entry" (15 : Nat) "java/util/TreeMap$Entry" "key" "Ljava/lang/Object;") ∈ lw_all := lw_g (lw_at lw_m4 61 rfl) rfl
theorem q899 : (Jvm.Cond.fieldLink "java/util/TreeMap$KeyIterator" (13 : Nat) "java/util/TreeMap$Entry" "key" "Ljava/lang/Object;") ∈ lw_all := lw_g (lw_at lw_m4 62 rfl) rfl
theorem q900 : (Jvm.Cond.fieldLink "java/util/TreeMap" (105 : Nat) "java/util/TreeMap$Entry" "key" "Ljava/lang/Object;") ∈ lw_all := lw_g (lw_at lw_m4 63 rfl) rfl
theorem q901 : (Jvm.Cond.fieldLink "java/util/TreeMap$Entry" (19 : Nat) "java/util/TreeMap$Entry" "value" "Ljava/lang/Object;") ∈ lw_all := lw_g (lw_at lw_m4 64 rfl) rfl
theorem q902 : (Jvm.Cond.fieldLink "java/util/TreeMap$ValueIterator" (13 : Nat) "java/util/TreeMap$Entry" "value" "Ljava/lang/Object;") ∈ lw_all := lw_g (lw_at lw_m4 65 rfl) rfl
theorem q903 : (Jvm.Cond.fieldLink "java/util/TreeMap" (58 : Nat) "java/util/TreeMap$Entry" "value" "Ljava/lang/Object;") ∈ lw_all := lw_g (lw_at lw_m4 66 rfl) rfl
theorem q904 : (Jvm.Cond.fieldLink "java/util/TreeMap" (111 : Nat) "java/util/TreeMap$Entry" "left" "Ljava/util/TreeMap$Entry;") ∈ lw_all := lw_g (lw_at lw_m4 67 rfl) rfl
theorem q905 : (Jvm.Cond.fieldLink "java/util/TreeMap" (114 : Nat) "java/util/TreeMap$Entry" "right" "Ljava/util/TreeMap$Entry;") ∈ lw_all := lw_g (lw_at lw_m4 68 rfl) rfl
theorem q906 : (Jvm.Cond.fieldLink "java/util/TreeMap$Entry" (22 : Nat) "java/util/TreeMap$Entry" "parent" "Ljava/util/TreeMap$Entry;") ∈ lw_all := lw_g (lw_at lw_m4 69 rfl) rfl
theorem q907 : (Jvm.Cond.fieldLink "java/util/TreeMap" (124 : Nat) "java/util/TreeMap$Entry" "parent" "Ljava/util/TreeMap$Entry;") ∈ lw_all := lw_g (lw_at lw_m4 70 rfl) rfl
theorem q908 : (Jvm.Cond.fieldLink "java/util/TreeMap$Entry" (9 : Nat) "java/util/TreeMap$Entry" "color" "Z") ∈ lw_all := lw_g (lw_at lw_m4 71 rfl) rfl
theorem q909 : (Jvm.Cond.fieldLink "java/util/TreeMap" (290 : Nat) "java/util/TreeMap$Entry" "color" "Z") ∈ lw_all := lw_g (lw_at lw_m4 72 rfl) rfl
theorem q910 : (Jvm.Cond.lays "java/util/TreeMap$Entry" "java/util/TreeMap$Entry" "key" "Ljava/lang/Object;") ∈ lw_all := lw_g (lw_at lw_m4 73 rfl) rfl
theorem q911 : (Jvm.Cond.soleField "java/util/TreeMap$Entry" "key") ∈ lw_all := lw_g (lw_at lw_m4 74 rfl) rfl
theorem q912 : (Jvm.Cond.lays "java/util/TreeMap$Entry" "java/util/TreeMap$Entry" "value" "Ljava/lang/Object;") ∈ lw_all := lw_g (lw_at lw_m4 75 rfl) rfl
theorem q913 : (Jvm.Cond.soleField "java/util/TreeMap$Entry" "value") ∈ lw_all := lw_g (lw_at lw_m4 76 rfl) rfl
theorem q914 : (Jvm.Cond.lays "java/util/TreeMap$Entry" "java/util/TreeMap$Entry" "left" "Ljava/util/TreeMap$Entry;") ∈ lw_all := lw_g (lw_at lw_m4 77 rfl) rfl
theorem q915 : (Jvm.Cond.soleField "java/util/TreeMap$Entry" "left") ∈ lw_all := lw_g (lw_at lw_m4 78 rfl) rfl
theorem q916 : (Jvm.Cond.lays "java/util/TreeMap$Entry" "java/util/TreeMap$Entry" "right" "Ljava/util/TreeMap$Entry;") ∈ lw_all := lw_g (lw_at lw_m4 79 rfl) rfl
theorem q917 : (Jvm.Cond.soleField "java/util/TreeMap$Entry" "right") ∈ lw_all := lw_g (lw_at lw_m4 80 rfl) rfl
theorem q918 : (Jvm.Cond.lays "java/util/TreeMap$Entry" "java/util/TreeMap$Entry" "parent" "Ljava/util/TreeMap$Entry;") ∈ lw_all := lw_g (lw_at lw_m4 81 rfl) rfl
theorem q919 : (Jvm.Cond.soleField "java/util/TreeMap$Entry" "parent") ∈ lw_all := lw_g (lw_at lw_m4 82 rfl) rfl
theorem q920 : (Jvm.Cond.lays "java/util/TreeMap$Entry" "java/util/TreeMap$Entry" "color" "Z") ∈ lw_all := lw_g (lw_at lw_m4 83 rfl) rfl
theorem q921 : (Jvm.Cond.soleField "java/util/TreeMap$Entry" "color") ∈ lw_all := lw_g (lw_at lw_m4 84 rfl) rfl
theorem q922 : (Jvm.Cond.superclass "java/util/TreeMap$Entry" "java/lang/Object") ∈ lw_all := lw_g (lw_at lw_m4 85 rfl) rfl
theorem q923 : (Jvm.Cond.methodLink "java/util/TreeMap" (95 : Nat) ({ cls := "java/util/Objects", name := "requireNonNull", desc := "(Ljava/lang/Object;)Ljava/lang/Object;" } : Jvm.MethodName)) ∈ lw_all := lw_g (lw_at lw_m4 86 rfl) rfl
theorem q924 : (Jvm.Cond.static ({ cls := "java/util/Objects", name := "requireNonNull", desc := "(Ljava/lang/Object;)Ljava/lang/Object;" } : Jvm.MethodName)) ∈ lw_all := lw_g (lw_at lw_m4 87 rfl) rfl
theorem q925 : (Jvm.Cond.code ({ cls := "java/util/Objects", name := "requireNonNull", desc := "(Ljava/lang/Object;)Ljava/lang/Object;" } : Jvm.MethodName) prog_72_method_10_code (1 : Nat) (Option.some (Jvm.ClassFile.FieldType.object "java/lang/Object"))) ∈ lw_all := lw_g (lw_at lw_m4 88 rfl) rfl
theorem q926 : (Jvm.Cond.methodLink "java/util/TreeMap" (139 : Nat) ({ cls := "java/util/TreeMap", name := "addEntry", desc := "(Ljava/lang/Object;Ljava/lang/Object;Ljava/util/TreeMap$Entry;Z)V" } : Jvm.MethodName)) ∈ lw_all := lw_g (lw_at lw_m4 89 rfl) rfl
theorem q927 : (Jvm.Cond.privateMethod ({ cls := "java/util/TreeMap", name := "addEntry", desc := "(Ljava/lang/Object;Ljava/lang/Object;Ljava/util/TreeMap$Entry;Z)V" } : Jvm.MethodName)) ∈ lw_tbl := lw_at lw_m4 90 rfl
theorem q928 : (Jvm.Cond.instanceMethod ({ cls := "java/util/TreeMap", name := "addEntry", desc := "(Ljava/lang/Object;Ljava/lang/Object;Ljava/util/TreeMap$Entry;Z)V" } : Jvm.MethodName)) ∈ lw_all := lw_g (lw_at lw_m4 91 rfl) rfl
theorem q929 : (Jvm.Cond.code ({ cls := "java/util/TreeMap", name := "addEntry", desc := "(Ljava/lang/Object;Ljava/lang/Object;Ljava/util/TreeMap$Entry;Z)V" } : Jvm.MethodName) prog_83_method_29_code (6 : Nat) (Option.none : Option Jvm.ClassFile.FieldType)) ∈ lw_all := lw_g (lw_at lw_m4 92 rfl) rfl
theorem q930 : (Jvm.Cond.methodLink "java/util/TreeMap" (170 : Nat) ({ cls := "java/util/TreeMap", name := "fixAfterInsertion", desc := "(Ljava/util/TreeMap$Entry;)V" } : Jvm.MethodName)) ∈ lw_all := lw_g (lw_at lw_m4 93 rfl) rfl
theorem q931 : (Jvm.Cond.privateMethod ({ cls := "java/util/TreeMap", name := "fixAfterInsertion", desc := "(Ljava/util/TreeMap$Entry;)V" } : Jvm.MethodName)) ∈ lw_tbl := lw_at lw_m4 94 rfl
theorem q932 : (Jvm.Cond.instanceMethod ({ cls := "java/util/TreeMap", name := "fixAfterInsertion", desc := "(Ljava/util/TreeMap$Entry;)V" } : Jvm.MethodName)) ∈ lw_all := lw_g (lw_at lw_m4 95 rfl) rfl
theorem q933 : (Jvm.Cond.code ({ cls := "java/util/TreeMap", name := "fixAfterInsertion", desc := "(Ljava/util/TreeMap$Entry;)V" } : Jvm.MethodName) prog_83_method_83_code (3 : Nat) (Option.none : Option Jvm.ClassFile.FieldType)) ∈ lw_all := lw_g (lw_at lw_m4 96 rfl) rfl
theorem q934 : (Jvm.Cond.methodLink "java/util/TreeMap" (294 : Nat) ({ cls := "java/util/TreeMap", name := "parentOf", desc := "(Ljava/util/TreeMap$Entry;)Ljava/util/TreeMap$Entry;" } : Jvm.MethodName)) ∈ lw_all := lw_g (lw_at lw_m4 97 rfl) rfl
theorem q935 : (Jvm.Cond.static ({ cls := "java/util/TreeMap", name := "parentOf", desc := "(Ljava/util/TreeMap$Entry;)Ljava/util/TreeMap$Entry;" } : Jvm.MethodName)) ∈ lw_all := lw_g (lw_at lw_m4 98 rfl) rfl
theorem q936 : (Jvm.Cond.code ({ cls := "java/util/TreeMap", name := "parentOf", desc := "(Ljava/util/TreeMap$Entry;)Ljava/util/TreeMap$Entry;" } : Jvm.MethodName) prog_83_method_77_code (1 : Nat) (Option.some (Jvm.ClassFile.FieldType.object "java/util/TreeMap$Entry"))) ∈ lw_all := lw_g (lw_at lw_m4 99 rfl) rfl
theorem q937 : (Jvm.Cond.methodLink "java/util/TreeMap" (297 : Nat) ({ cls := "java/util/TreeMap", name := "leftOf", desc := "(Ljava/util/TreeMap$Entry;)Ljava/util/TreeMap$Entry;" } : Jvm.MethodName)) ∈ lw_all := lw_g (lw_at lw_m4 100 rfl) rfl
theorem q938 : (Jvm.Cond.static ({ cls := "java/util/TreeMap", name := "leftOf", desc := "(Ljava/util/TreeMap$Entry;)Ljava/util/TreeMap$Entry;" } : Jvm.MethodName)) ∈ lw_all := lw_g (lw_at lw_m4 101 rfl) rfl
theorem q939 : (Jvm.Cond.code ({ cls := "java/util/TreeMap", name := "leftOf", desc := "(Ljava/util/TreeMap$Entry;)Ljava/util/TreeMap$Entry;" } : Jvm.MethodName) prog_83_method_79_code (1 : Nat) (Option.some (Jvm.ClassFile.FieldType.object "java/util/TreeMap$Entry"))) ∈ lw_all := lw_g (lw_at lw_m4 102 rfl) rfl
theorem q940 : (Jvm.Cond.methodLink "java/util/TreeMap" (300 : Nat) ({ cls := "java/util/TreeMap", name := "rightOf", desc := "(Ljava/util/TreeMap$Entry;)Ljava/util/TreeMap$Entry;" } : Jvm.MethodName)) ∈ lw_all := lw_g (lw_at lw_m4 103 rfl) rfl
theorem q941 : (Jvm.Cond.static ({ cls := "java/util/TreeMap", name := "rightOf", desc := "(Ljava/util/TreeMap$Entry;)Ljava/util/TreeMap$Entry;" } : Jvm.MethodName)) ∈ lw_all := lw_g (lw_at lw_m4 104 rfl) rfl
theorem q942 : (Jvm.Cond.code ({ cls := "java/util/TreeMap", name := "rightOf", desc := "(Ljava/util/TreeMap$Entry;)Ljava/util/TreeMap$Entry;" } : Jvm.MethodName) prog_83_method_80_code (1 : Nat) (Option.some (Jvm.ClassFile.FieldType.object "java/util/TreeMap$Entry"))) ∈ lw_all := lw_g (lw_at lw_m4 105 rfl) rfl
theorem q943 : (Jvm.Cond.methodLink "java/util/TreeMap" (303 : Nat) ({ cls := "java/util/TreeMap", name := "colorOf", desc := "(Ljava/util/TreeMap$Entry;)Z" } : Jvm.MethodName)) ∈ lw_all := lw_g (lw_at lw_m4 106 rfl) rfl
theorem q944 : (Jvm.Cond.static ({ cls := "java/util/TreeMap", name := "colorOf", desc := "(Ljava/util/TreeMap$Entry;)Z" } : Jvm.MethodName)) ∈ lw_all := lw_g (lw_at lw_m4 107 rfl) rfl
theorem q945 : (Jvm.Cond.code ({ cls := "java/util/TreeMap", name := "colorOf", desc := "(Ljava/util/TreeMap$Entry;)Z" } : Jvm.MethodName) prog_83_method_76_code (1 : Nat) (Option.some Jvm.ClassFile.FieldType.boolean)) ∈ lw_all := lw_g (lw_at lw_m4 108 rfl) rfl
theorem q946 : (Jvm.Cond.methodLink "java/util/TreeMap" (307 : Nat) ({ cls := "java/util/TreeMap", name := "setColor", desc := "(Ljava/util/TreeMap$Entry;Z)V" } : Jvm.MethodName)) ∈ lw_all := lw_g (lw_at lw_m4 109 rfl) rfl
theorem q947 : (Jvm.Cond.static ({ cls := "java/util/TreeMap", name := "setColor", desc := "(Ljava/util/TreeMap$Entry;Z)V" } : Jvm.MethodName)) ∈ lw_all := lw_g (lw_at lw_m4 110 rfl) rfl
theorem q948 : (Jvm.Cond.code ({ cls := "java/util/TreeMap", name := "setColor", desc := "(Ljava/util/TreeMap$Entry;Z)V" } : Jvm.MethodName) prog_83_method_78_code (2 : Nat) (Option.none : Option Jvm.ClassFile.FieldType)) ∈ lw_all := lw_g (lw_at lw_m4 111 rfl) rfl
theorem q949 : (Jvm.Cond.methodLink "java/util/TreeMap" (311 : Nat) ({ cls := "java/util/TreeMap", name := "rotateLeft", desc := "(Ljava/util/TreeMap$Entry;)V" } : Jvm.MethodName)) ∈ lw_all := lw_g (lw_at lw_m4 112 rfl) rfl
theorem q950 : (Jvm.Cond.privateMethod ({ cls := "java/util/TreeMap", name := "rotateLeft", desc := "(Ljava/util/TreeMap$Entry;)V" } : Jvm.MethodName)) ∈ lw_tbl := lw_at lw_m4 113 rfl
theorem q951 : (Jvm.Cond.instanceMethod ({ cls := "java/util/TreeMap", name := "rotateLeft", desc := "(Ljava/util/TreeMap$Entry;)V" } : Jvm.MethodName)) ∈ lw_all := lw_g (lw_at lw_m4 114 rfl) rfl
theorem q952 : (Jvm.Cond.code ({ cls := "java/util/TreeMap", name := "rotateLeft", desc := "(Ljava/util/TreeMap$Entry;)V" } : Jvm.MethodName) prog_83_method_81_code (3 : Nat) (Option.none : Option Jvm.ClassFile.FieldType)) ∈ lw_all := lw_g (lw_at lw_m4 115 rfl) rfl
theorem q953 : (Jvm.Cond.methodLink "java/util/TreeMap" (314 : Nat) ({ cls := "java/util/TreeMap", name := "rotateRight", desc := "(Ljava/util/TreeMap$Entry;)V" } : Jvm.MethodName)) ∈ lw_all := lw_g (lw_at lw_m4 116 rfl) rfl
theorem q954 : (Jvm.Cond.privateMethod ({ cls := "java/util/TreeMap", name := "rotateRight", desc := "(Ljava/util/TreeMap$Entry;)V" } : Jvm.MethodName)) ∈ lw_tbl := lw_at lw_m4 117 rfl
theorem q955 : (Jvm.Cond.instanceMethod ({ cls := "java/util/TreeMap", name := "rotateRight", desc := "(Ljava/util/TreeMap$Entry;)V" } : Jvm.MethodName)) ∈ lw_all := lw_g (lw_at lw_m4 118 rfl) rfl
theorem q956 : (Jvm.Cond.code ({ cls := "java/util/TreeMap", name := "rotateRight", desc := "(Ljava/util/TreeMap$Entry;)V" } : Jvm.MethodName) prog_83_method_82_code (3 : Nat) (Option.none : Option Jvm.ClassFile.FieldType)) ∈ lw_all := lw_g (lw_at lw_m4 119 rfl) rfl
theorem q957 : (Jvm.Cond.methodLink "GangColumns" (74 : Nat) ({ cls := "java/util/TreeMap", name := "values", desc := "()Ljava/util/Collection;" } : Jvm.MethodName)) ∈ lw_all := lw_g (lw_at lw_m4 120 rfl) rfl
theorem q958 : (Jvm.Cond.instanceMethod ({ cls := "java/util/TreeMap", name := "values", desc := "()Ljava/util/Collection;" } : Jvm.MethodName)) ∈ lw_all := lw_g (lw_at lw_m4 121 rfl) rfl
theorem q959 : (Jvm.Cond.selects "java/util/TreeMap" ({ cls := "java/util/TreeMap", name := "values", desc := "()Ljava/util/Collection;" } : Jvm.MethodName) ({ cls := "java/util/TreeMap", name := "values", desc := "()Ljava/util/Collection;" } : Jvm.MethodName)) ∈ lw_all := lw_g (lw_at lw_m4 122 rfl) rfl
theorem q960 : (Jvm.Cond.code ({ cls := "java/util/TreeMap", name := "values", desc := "()Ljava/util/Collection;" } : Jvm.MethodName) prog_83_method_52_code (2 : Nat) (Option.some (Jvm.ClassFile.FieldType.object "java/util/Collection"))) ∈ lw_all := lw_g (lw_at lw_m4 123 rfl) rfl
theorem q961 : (Jvm.Cond.classLink "java/util/TreeMap" (237 : Nat) "java/util/TreeMap$Values") ∈ lw_all := lw_g (lw_at lw_m4 124 rfl) rfl
theorem q962 : (Jvm.Cond.instantiable "java/util/TreeMap$Values" (1 : Nat)) ∈ lw_all := lw_g (lw_at lw_m4 125 rfl) rfl
theorem q963 : (Jvm.Cond.methodLink "java/util/TreeMap" (239 : Nat) ({ cls := "java/util/TreeMap$Values", name := "<init>", desc := "(Ljava/util/TreeMap;)V" } : Jvm.MethodName)) ∈ lw_all := lw_g (lw_at lw_m4 126 rfl) rfl
theorem q964 : (Jvm.Cond.instanceMethod ({ cls := "java/util/TreeMap$Values", name := "<init>", desc := "(Ljava/util/TreeMap;)V" } : Jvm.MethodName)) ∈ lw_all := lw_g (lw_at lw_m4 127 rfl) rfl
theorem q965 : (Jvm.Cond.code ({ cls := "java/util/TreeMap$Values", name := "<init>", desc := "(Ljava/util/TreeMap;)V" } : Jvm.MethodName) prog_92_method_1_code (2 : Nat) (Option.none : Option Jvm.ClassFile.FieldType)) ∈ lw_all := lw_g (lw_at lw_m4 128 rfl) rfl
theorem q966 : (Jvm.Cond.methodLink "java/util/TreeMap$Values" (7 : Nat) ({ cls := "java/util/AbstractCollection", name := "<init>", desc := "()V" } : Jvm.MethodName)) ∈ lw_all := lw_g (lw_at lw_m4 129 rfl) rfl
theorem q967 : (Jvm.Cond.fieldLink "java/util/TreeMap$Values" (1 : Nat) "java/util/TreeMap$Values" "this$0" "Ljava/util/TreeMap;") ∈ lw_all := lw_g (lw_at lw_m4 130 rfl) rfl
theorem q968 : (Jvm.Cond.laysFinal "java/util/TreeMap$Values" "java/util/TreeMap$Values" "this$0" "Ljava/util/TreeMap;") ∈ lw_all := lw_g (lw_at lw_m4 131 rfl) rfl
theorem q969 : (Jvm.Cond.soleField "java/util/TreeMap$Values" "this$0") ∈ lw_all := lw_g (lw_at lw_m4 132 rfl) rfl
theorem q970 : (Jvm.Cond.superclass "java/util/TreeMap$Values" "java/util/AbstractCollection") ∈ lw_all := lw_g (lw_at lw_m4 133 rfl) rfl
theorem q971 : (Jvm.Cond.interfaceEntry "GangColumns" (80 : Nat)) ∈ lw_tbl := lw_at lw_m4 134 rfl
theorem q972 : (Jvm.Cond.methodLink "GangColumns" (80 : Nat) ({ cls := "java/util/Collection", name := "iterator", desc := "()Ljava/util/Iterator;" } : Jvm.MethodName)) ∈ lw_all := lw_g (lw_at lw_m4 135 rfl) rfl
theorem q973 : (Jvm.Cond.interfaceMethod "java/util/Collection" "java/util/Collection" "iterator" "()Ljava/util/Iterator;") ∈ lw_tbl := lw_at lw_m4 136 rfl
theorem q974 : (Jvm.Cond.declares ({ cls := "java/util/Collection", name := "iterator", desc := "()Ljava/util/Iterator;" } : Jvm.MethodName)) ∈ lw_tbl := lw_at lw_m4 137 rfl
theorem q975 : (Jvm.Cond.castable "java/util/ArrayList" "java/util/Collection") ∈ lw_tbl := lw_at lw_m4 138 rfl
theorem q976 : (Jvm.Cond.selects "java/util/ArrayList" ({ cls := "java/util/Collection", name := "iterator", desc := "()Ljava/util/Iterator;" } : Jvm.MethodName) ({ cls := "java/util/ArrayList", name := "iterator", desc := "()Ljava/util/Iterator;" } : Jvm.MethodName)) ∈ lw_all := lw_g (lw_at lw_m4 139 rfl) rfl
theorem q977 : (Jvm.Cond.unhidden "java/util/ArrayList" "iterator" "()Ljava/util/Iterator;") ∈ lw_tbl := lw_at lw_m4 140 rfl
theorem q978 : (Jvm.Cond.instanceMethod ({ cls := "java/util/ArrayList", name := "iterator", desc := "()Ljava/util/Iterator;" } : Jvm.MethodName)) ∈ lw_all := lw_g (lw_at lw_m4 141 rfl) rfl
theorem q979 : (Jvm.Cond.publicMethod ({ cls := "java/util/ArrayList", name := "iterator", desc := "()Ljava/util/Iterator;" } : Jvm.MethodName)) ∈ lw_tbl := lw_at lw_m4 142 rfl
theorem q980 : (Jvm.Cond.code ({ cls := "java/util/ArrayList", name := "iterator", desc := "()Ljava/util/Iterator;" } : Jvm.MethodName) prog_61_method_55_code (1 : Nat) (Option.some (Jvm.ClassFile.FieldType.object "java/util/Iterator"))) ∈ lw_all := lw_g (lw_at lw_m4 143 rfl) rfl
theorem q981 : (Jvm.Cond.classLink "java/util/ArrayList" (267 : Nat) "java/util/ArrayList$Itr") ∈ lw_all := lw_g (lw_at lw_m4 144 rfl) rfl
theorem q982 : (Jvm.Cond.instantiable "java/util/ArrayList$Itr" (4 : Nat)) ∈ lw_all := lw_g (lw_at lw_m4 145 rfl) rfl
theorem q983 : (Jvm.Cond.methodLink "java/util/ArrayList" (269 : Nat) ({ cls := "java/util/ArrayList$Itr", name := "<init>", desc := "(Ljava/util/ArrayList;)V" } : Jvm.MethodName)) ∈ lw_all := lw_g (lw_at lw_m4 146 rfl) rfl
theorem q984 : (Jvm.Cond.instanceMethod ({ cls := "java/util/ArrayList$Itr", name := "<init>", desc := "(Ljava/util/ArrayList;)V" } : Jvm.MethodName)) ∈ lw_all := lw_g (lw_at lw_m4 147 rfl) rfl
theorem q985 : (Jvm.Cond.code ({ cls := "java/util/ArrayList$Itr", name := "<init>", desc := "(Ljava/util/ArrayList;)V" } : Jvm.MethodName) prog_62_method_1_code (2 : Nat) (Option.none : Option Jvm.ClassFile.FieldType)) ∈ lw_all := lw_g (lw_at lw_m4 148 rfl) rfl
theorem q986 : (Jvm.Cond.methodLink "java/util/ArrayList$Itr" (7 : Nat) ({ cls := "java/lang/Object", name := "<init>", desc := "()V" } : Jvm.MethodName)) ∈ lw_all := lw_g (lw_at lw_m4 149 rfl) rfl
theorem q987 : (Jvm.Cond.fieldLink "java/util/ArrayList$Itr" (25 : Nat) "java/util/ArrayList$Itr" "cursor" "I") ∈ lw_all := lw_g (lw_at lw_m4 150 rfl) rfl
theorem q988 : (Jvm.Cond.fieldLink "java/util/ArrayList$Itr" (13 : Nat) "java/util/ArrayList$Itr" "lastRet" "I") ∈ lw_all := lw_g (lw_at lw_m4 151 rfl) rfl
theorem q989 : (Jvm.Cond.fieldLink "java/util/ArrayList$Itr" (22 : Nat) "java/util/ArrayList$Itr" "expectedModCount" "I") ∈ lw_all := lw_g (lw_at lw_m4 152 rfl) rfl
theorem q990 : (Jvm.Cond.fieldLink "java/util/ArrayList$Itr" (1 : Nat) "java/util/ArrayList$Itr" "this$0" "Ljava/util/ArrayList;") ∈ lw_all := lw_g (lw_at lw_m4 153 rfl) rfl
theorem q991 : (Jvm.Cond.lays "java/util/ArrayList$Itr" "java/util/ArrayList$Itr" "cursor" "I") ∈ lw_all := lw_g (lw_at lw_m4 154 rfl) rfl
theorem q992 : (Jvm.Cond.soleField "java/util/ArrayList$Itr" "cursor") ∈ lw_all := lw_g (lw_at lw_m4 155 rfl) rfl
theorem q993 : (Jvm.Cond.lays "java/util/ArrayList$Itr" "java/util/ArrayList$Itr" "lastRet" "I") ∈ lw_all := lw_g (lw_at lw_m4 156 rfl) rfl
theorem q994 : (Jvm.Cond.soleField "java/util/ArrayList$Itr" "lastRet") ∈ lw_all := lw_g (lw_at lw_m4 157 rfl) rfl
theorem q995 : (Jvm.Cond.lays "java/util/ArrayList$Itr" "java/util/ArrayList$Itr" "expectedModCount" "I") ∈ lw_all := lw_g (lw_at lw_m4 158 rfl) rfl
theorem q996 : (Jvm.Cond.soleField "java/util/ArrayList$Itr" "expectedModCount") ∈ lw_all := lw_g (lw_at lw_m4 159 rfl) rfl
theorem q997 : (Jvm.Cond.laysFinal "java/util/ArrayList$Itr" "java/util/ArrayList$Itr" "this$0" "Ljava/util/ArrayList;") ∈ lw_all := lw_g (lw_at lw_m4 160 rfl) rfl
theorem q998 : (Jvm.Cond.soleField "java/util/ArrayList$Itr" "this$0") ∈ lw_all := lw_g (lw_at lw_m4 161 rfl) rfl
theorem q999 : (Jvm.Cond.superclass "java/util/ArrayList$Itr" "java/lang/Object") ∈ lw_all := lw_g (lw_at lw_m4 162 rfl) rfl
theorem q1000 : (Jvm.Cond.castable "java/util/PriorityQueue" "java/util/Collection") ∈ lw_tbl := lw_at lw_m4 163 rfl
theorem q1001 : (Jvm.Cond.selects "java/util/PriorityQueue" ({ cls := "java/util/Collection", name := "iterator", desc := "()Ljava/util/Iterator;" } : Jvm.MethodName) ({ cls := "java/util/PriorityQueue", name := "iterator", desc := "()Ljava/util/Iterator;" } : Jvm.MethodName)) ∈ lw_all := lw_g (lw_at lw_m4 164 rfl) rfl
theorem q1002 : (Jvm.Cond.unhidden "java/util/PriorityQueue" "iterator" "()Ljava/util/Iterator;") ∈ lw_tbl := lw_at lw_m4 165 rfl
theorem q1003 : (Jvm.Cond.instanceMethod ({ cls := "java/util/PriorityQueue", name := "iterator", desc := "()Ljava/util/Iterator;" } : Jvm.MethodName)) ∈ lw_all := lw_g (lw_at lw_m4 166 rfl) rfl
theorem q1004 : (Jvm.Cond.publicMethod ({ cls := "java/util/PriorityQueue", name := "iterator", desc := "()Ljava/util/Iterator;" } : Jvm.MethodName)) ∈ lw_tbl := lw_at lw_m4 167 rfl
theorem q1005 : (Jvm.Cond.code ({ cls := "java/util/PriorityQueue", name := "iterator", desc := "()Ljava/util/Iterator;" } : Jvm.MethodName) prog_73_method_22_code (1 : Nat) (Option.some (Jvm.ClassFile.FieldType.object "java/util/Iterator"))) ∈ lw_all := lw_g (lw_at lw_m4 168 rfl) rfl
theorem q1006 : (Jvm.Cond.classLink "java/util/PriorityQueue" (121 : Nat) "java/util/PriorityQueue$Itr") ∈ lw_all := lw_g (lw_at lw_m4 169 rfl) rfl
theorem q1007 : (Jvm.Cond.instantiable "java/util/PriorityQueue$Itr" (6 : Nat)) ∈ lw_all := lw_g (lw_at lw_m4 170 rfl) rfl
theorem q1008 : (Jvm.Cond.methodLink "java/util/PriorityQueue" (123 : Nat) ({ cls := "java/util/PriorityQueue$Itr", name := "<init>", desc := "(Ljava/util/PriorityQueue;)V" } : Jvm.MethodName)) ∈ lw_all := lw_g (lw_at lw_m4 171 rfl) rfl
theorem q1009 : (Jvm.Cond.instanceMethod ({ cls := "java/util/PriorityQueue$Itr", name := "<init>", desc := "(Ljava/util/PriorityQueue;)V" } : Jvm.MethodName)) ∈ lw_all := lw_g (lw_at lw_m4 172 rfl) rfl
theorem q1010 : (Jvm.Cond.code ({ cls := "java/util/PriorityQueue$Itr", name := "<init>", desc := "(Ljava/util/PriorityQueue;)V" } : Jvm.MethodName) prog_74_method_1_code (2 : Nat) (Option.none : Option Jvm.ClassFile.FieldType)) ∈ lw_all := lw_g (lw_at lw_m4 173 rfl) rfl
theorem q1011 : (Jvm.Cond.methodLink "java/util/PriorityQueue$Itr" (7 : Nat) ({ cls := "java/lang/Object", name := "<init>", desc := "()V" } : Jvm.MethodName)) ∈ lw_all := lw_g (lw_at lw_m4 174 rfl) rfl
theorem q1012 : (Jvm.Cond.fieldLink "java/util/PriorityQueue$Itr" (25 : Nat) "java/util/PriorityQueue$Itr" "cursor" "I") ∈ lw_all := lw_g (lw_at lw_m4 175 rfl) rfl
theorem q1013 : (Jvm.Cond.fieldLink "java/util/PriorityQueue$Itr" (13 : Nat) "java/util/PriorityQueue$Itr" "lastRet" "I") ∈ lw_all := lw_g (lw_at lw_m4 176 rfl) rfl
theorem q1014 : (Jvm.Cond.fieldLink "java/util/PriorityQueue$Itr" (31 : Nat) "java/util/PriorityQueue$Itr" "forgetMeNot" "Ljava/util/ArrayDeque;") ∈ lw_all := lw_g (lw_at lw_m4 177 rfl) rfl
theorem q1015 : (Jvm.Cond.fieldLink "java/util/PriorityQueue$Itr" (52 : Nat) "java/util/PriorityQueue$Itr" "lastRetElt" "Ljava/lang/Object;") ∈ lw_all := lw_g (lw_at lw_m4 178 rfl) rfl
theorem q1016 : (Jvm.Cond.fieldLink "java/util/PriorityQueue$Itr" (22 : Nat) "java/util/PriorityQueue$Itr" "expectedModCount" "I") ∈ lw_all := lw_g (lw_at lw_m4 179 rfl) rfl
theorem q1017 : (Jvm.Cond.fieldLink "java/util/PriorityQueue$Itr" (1 : Nat) "java/util/PriorityQueue$Itr" "this$0" "Ljava/util/PriorityQueue;") ∈ lw_all := lw_g (lw_at lw_m4 180 rfl) rfl
theorem q1018 : (Jvm.Cond.lays "java/util/PriorityQueue$Itr" "java/util/PriorityQueue$Itr" "cursor" "I") ∈ lw_all := lw_g (lw_at lw_m4 181 rfl) rfl
theorem q1019 : (Jvm.Cond.soleField "java/util/PriorityQueue$Itr" "cursor") ∈ lw_all := lw_g (lw_at lw_m4 182 rfl) rfl
theorem q1020 : (Jvm.Cond.lays "java/util/PriorityQueue$Itr" "java/util/PriorityQueue$Itr" "lastRet" "I") ∈ lw_all := lw_g (lw_at lw_m4 183 rfl) rfl
theorem q1021 : (Jvm.Cond.soleField "java/util/PriorityQueue$Itr" "lastRet") ∈ lw_all := lw_g (lw_at lw_m4 184 rfl) rfl
theorem q1022 : (Jvm.Cond.lays "java/util/PriorityQueue$Itr" "java/util/PriorityQueue$Itr" "forgetMeNot" "Ljava/util/ArrayDeque;") ∈ lw_all := lw_g (lw_at lw_m4 185 rfl) rfl
theorem q1023 : (Jvm.Cond.soleField "java/util/PriorityQueue$Itr" "forgetMeNot") ∈ lw_all := lw_g (lw_at lw_m4 186 rfl) rfl
theorem q1024 : (Jvm.Cond.lays "java/util/PriorityQueue$Itr" "java/util/PriorityQueue$Itr" "lastRetElt" "Ljava/lang/Object;") ∈ lw_all := lw_g (lw_at lw_m4 187 rfl) rfl
theorem q1025 : (Jvm.Cond.soleField "java/util/PriorityQueue$Itr" "lastRetElt") ∈ lw_all := lw_g (lw_at lw_m4 188 rfl) rfl
theorem q1026 : (Jvm.Cond.lays "java/util/PriorityQueue$Itr" "java/util/PriorityQueue$Itr" "expectedModCount" "I") ∈ lw_all := lw_g (lw_at lw_m4 189 rfl) rfl
theorem q1027 : (Jvm.Cond.soleField "java/util/PriorityQueue$Itr" "expectedModCount") ∈ lw_all := lw_g (lw_at lw_m4 190 rfl) rfl
theorem q1028 : (Jvm.Cond.laysFinal "java/util/PriorityQueue$Itr" "java/util/PriorityQueue$Itr" "this$0" "Ljava/util/PriorityQueue;") ∈ lw_all := lw_g (lw_at lw_m4 191 rfl) rfl
theorem q1029 : (Jvm.Cond.soleField "java/util/PriorityQueue$Itr" "this$0") ∈ lw_all := lw_g (lw_at lw_m4 192 rfl) rfl
theorem q1030 : (Jvm.Cond.superclass "java/util/PriorityQueue$Itr" "java/lang/Object") ∈ lw_all := lw_g (lw_at lw_m4 193 rfl) rfl
theorem q1031 : (Jvm.Cond.castable "java/util/TreeMap$EntrySet" "java/util/Collection") ∈ lw_tbl := lw_at lw_m4 194 rfl
theorem q1032 : (Jvm.Cond.selects "java/util/TreeMap$EntrySet" ({ cls := "java/util/Collection", name := "iterator", desc := "()Ljava/util/Iterator;" } : Jvm.MethodName) ({ cls := "java/util/TreeMap$EntrySet", name := "iterator", desc := "()Ljava/util/Iterator;" } : Jvm.MethodName)) ∈ lw_all := lw_g (lw_at lw_m4 195 rfl) rfl
theorem q1033 : (Jvm.Cond.unhidden "java/util/TreeMap$EntrySet" "iterator" "()Ljava/util/Iterator;") ∈ lw_tbl := lw_at lw_m4 196 rfl
theorem q1034 : (Jvm.Cond.instanceMethod ({ cls := "java/util/TreeMap$EntrySet", name := "iterator", desc := "()Ljava/util/Iterator;" } : Jvm.MethodName)) ∈ lw_all := lw_g (lw_at lw_m4 197 rfl) rfl
theorem q1035 : (Jvm.Cond.publicMethod ({ cls := "java/util/TreeMap$EntrySet", name := "iterator", desc := "()Ljava/util/Iterator;" } : Jvm.MethodName)) ∈ lw_tbl := lw_at lw_m4 198 rfl
theorem q1036 : (Jvm.Cond.code ({ cls := "java/util/TreeMap$EntrySet", name := "iterator", desc := "()Ljava/util/Iterator;" } : Jvm.MethodName) prog_86_method_2_code (1 : Nat) (Option.some (Jvm.ClassFile.FieldType.object "java/util/Iterator"))) ∈ lw_all := lw_g (lw_at lw_m4 199 rfl) rfl
theorem q1037 : (Jvm.Cond.classLink "java/util/TreeMap$EntrySet" (13 : Nat) "java/util/TreeMap$EntryIterator") ∈ lw_all := lw_g (lw_at lw_m4 200 rfl) rfl
theorem q1038 : (Jvm.Cond.instantiable "java/util/TreeMap$EntryIterator" (4 : Nat)) ∈ lw_all := lw_g (lw_at lw_m4 201 rfl) rfl
theorem q1039 : (Jvm.Cond.methodLink "java/util/TreeMap$EntrySet" (15 : Nat) ({ cls := "java/util/TreeMap", name := "getFirstEntry", desc := "()Ljava/util/TreeMap$Entry;" } : Jvm.MethodName)) ∈ lw_all := lw_g (lw_at lw_m4 202 rfl) rfl
theorem q1040 : (Jvm.Cond.instanceMethod ({ cls := "java/util/TreeMap", name := "getFirstEntry", desc := "()Ljava/util/TreeMap$Entry;" } : Jvm.MethodName)) ∈ lw_all := lw_g (lw_at lw_m4 203 rfl) rfl
theorem q1041 : (Jvm.Cond.selects "java/util/TreeMap" ({ cls := "java/util/TreeMap", name := "getFirstEntry", desc := "()Ljava/util/TreeMap$Entry;" } : Jvm.MethodName) ({ cls := "java/util/TreeMap", name := "getFirstEntry", desc := "()Ljava/util/TreeMap$Entry;" } : Jvm.MethodName)) ∈ lw_all := lw_g (lw_at lw_m4 204 rfl) rfl
theorem q1042 : (Jvm.Cond.code ({ cls := "java/util/TreeMap", name := "getFirstEntry", desc := "()Ljava/util/TreeMap$Entry;" } : Jvm.MethodName) prog_83_method_72_code (2 : Nat) (Option.some (Jvm.ClassFile.FieldType.object "java/util/TreeMap$Entry"))) ∈ lw_all := lw_g (lw_at lw_m4 205 rfl) rfl
theorem q1043 : (Jvm.Cond.methodLink "java/util/TreeMap$EntrySet" (21 : Nat) ({ cls := "java/util/TreeMap$EntryIterator", name := "<init>", desc := "(Ljava/util/TreeMap;Ljava/util/TreeMap$Entry;)V" } : Jvm.MethodName)) ∈ lw_all := lw_g (lw_at lw_m4 206 rfl) rfl
theorem q1044 : (Jvm.Cond.instanceMethod ({ cls := "java/util/TreeMap$EntryIterator", name := "<init>", desc := "(Ljava/util/TreeMap;Ljava/util/TreeMap$Entry;)V" } : Jvm.MethodName)) ∈ lw_all := lw_g (lw_at lw_m4 207 rfl) rfl
theorem q1045 : (Jvm.Cond.code ({ cls := "java/util/TreeMap$EntryIterator", name := "<init>", desc := "(Ljava/util/TreeMap;Ljava/util/TreeMap$Entry;)V" } : Jvm.MethodName) prog_85_method_1_code (3 : Nat) (Option.none : Option Jvm.ClassFile.FieldType)) ∈ lw_all := lw_g (lw_at lw_m4 208 rfl) rfl
theorem q1046 : (Jvm.Cond.methodLink "java/util/TreeMap$EntryIterator" (1 : Nat) ({ cls := "java/util/TreeMap$PrivateEntryIterator", name := "<init>", desc := "(Ljava/util/TreeMap;Ljava/util/TreeMap$Entry;)V" } : Jvm.MethodName)) ∈ lw_all := lw_g (lw_at lw_m4 209 rfl) rfl
theorem q1047 : (Jvm.Cond.instanceMethod ({ cls := "java/util/TreeMap$PrivateEntryIterator", name := "<init>", desc := "(Ljava/util/TreeMap;Ljava/util/TreeMap$Entry;)V" } : Jvm.MethodName)) ∈ lw_all := lw_g (lw_at lw_m4 210 rfl) rfl
theorem q1048 : (Jvm.Cond.code ({ cls := "java/util/TreeMap$PrivateEntryIterator", name := "<init>", desc := "(Ljava/util/TreeMap;Ljava/util/TreeMap$Entry;)V" } : Jvm.MethodName) prog_90_method_1_code (3 : Nat) (Option.none : Option Jvm.ClassFile.FieldType)) ∈ lw_all := lw_g (lw_at lw_m4 211 rfl) rfl
theorem q1049 : (Jvm.Cond.methodLink "java/util/TreeMap$PrivateEntryIterator" (7 : Nat) ({ cls := "java/lang/Object", name := "<init>", desc := "()V" } : Jvm.MethodName)) ∈ lw_all := lw_g (lw_at lw_m4 212 rfl) rfl
theorem q1050 : (Jvm.Cond.fieldLink "java/util/TreeMap$PrivateEntryIterator" (26 : Nat) "java/util/TreeMap$PrivateEntryIterator" "next" "Ljava/util/TreeMap$Entry;") ∈ lw_all := lw_g (lw_at lw_m4 213 rfl) rfl
theorem q1051 : (Jvm.Cond.fieldLink "java/util/TreeMap$PrivateEntryIterator" (22 : Nat) "java/util/TreeMap$PrivateEntryIterator" "lastReturned" "Ljava/util/TreeMap$Entry;") ∈ lw_all := lw_g (lw_at lw_m4 214 rfl) rfl
theorem q1052 : (Jvm.Cond.fieldLink "java/util/TreeMap$PrivateEntryIterator" (19 : Nat) "java/util/TreeMap$PrivateEntryIterator" "expectedModCount" "I") ∈ lw_all := lw_g (lw_at lw_m4 215 rfl) rfl
theorem q1053 : (Jvm.Cond.fieldLink "java/util/TreeMap$PrivateEntryIterator" (1 : Nat) "java/util/TreeMap$PrivateEntryIterator" "this$0" "Ljava/util/TreeMap;") ∈ lw_all := lw_g (lw_at lw_m4 216 rfl) rfl
theorem q1054 : (Jvm.Cond.lays "java/util/TreeMap$EntryIterator" "java/util/TreeMap$PrivateEntryIterator" "next" "Ljava/util/TreeMap$Entry;") ∈ lw_all := lw_g (lw_at lw_m4 217 rfl) rfl
theorem q1055 : (Jvm.Cond.soleField "java/util/TreeMap$PrivateEntryIterator" "next") ∈ lw_all := lw_g (lw_at lw_m4 218 rfl) rfl
theorem q1056 : (Jvm.Cond.lays "java/util/TreeMap$EntryIterator" "java/util/TreeMap$PrivateEntryIterator" "lastReturned" "Ljava/util/TreeMap$Entry;") ∈ lw_all := lw_g (lw_at lw_m4 219 rfl) rfl
theorem q1057 : (Jvm.Cond.soleField "java/util/TreeMap$PrivateEntryIterator" "lastReturned") ∈ lw_all := lw_g (lw_at lw_m4 220 rfl) rfl
theorem q1058 : (Jvm.Cond.lays "java/util/TreeMap$EntryIterator" "java/util/TreeMap$PrivateEntryIterator" "expectedModCount" "I") ∈ lw_all := lw_g (lw_at lw_m4 221 rfl) rfl
theorem q1059 : (Jvm.Cond.soleField "java/util/TreeMap$PrivateEntryIterator" "expectedModCount") ∈ lw_all := lw_g (lw_at lw_m4 222 rfl) rfl
theorem q1060 : (Jvm.Cond.laysFinal "java/util/TreeMap$EntryIterator" "java/util/TreeMap$PrivateEntryIterator" "this$0" "Ljava/util/TreeMap;") ∈ lw_all := lw_g (lw_at lw_m4 223 rfl) rfl
theorem q1061 : (Jvm.Cond.soleField "java/util/TreeMap$PrivateEntryIterator" "this$0") ∈ lw_all := lw_g (lw_at lw_m4 224 rfl) rfl
theorem q1062 : (Jvm.Cond.superclass "java/util/TreeMap$EntryIterator" "java/util/TreeMap$PrivateEntryIterator") ∈ lw_all := lw_g (lw_at lw_m4 225 rfl) rfl
theorem q1063 : (Jvm.Cond.castable "java/util/TreeMap$KeySet" "java/util/Collection") ∈ lw_tbl := lw_at lw_m4 226 rfl
theorem q1064 : (Jvm.Cond.selects "java/util/TreeMap$KeySet" ({ cls := "java/util/Collection", name := "iterator", desc := "()Ljava/util/Iterator;" } : Jvm.MethodName) ({ cls := "java/util/TreeMap$KeySet", name := "iterator", desc := "()Ljava/util/Iterator;" } : Jvm.MethodName)) ∈ lw_all := lw_g (lw_at lw_m4 227 rfl) rfl
theorem q1065 : (Jvm.Cond.unhidden "java/util/TreeMap$KeySet" "iterator" "()Ljava/util/Iterator;") ∈ lw_tbl := lw_at lw_m4 228 rfl
theorem q1066 : (Jvm.Cond.instanceMethod ({ cls := "java/util/TreeMap$KeySet", name := "iterator", desc := "()Ljava/util/Iterator;" } : Jvm.MethodName)) ∈ lw_all := lw_g (lw_at lw_m4 229 rfl) rfl
theorem q1067 : (Jvm.Cond.publicMethod ({ cls := "java/util/TreeMap$KeySet", name := "iterator", desc := "()Ljava/util/Iterator;" } : Jvm.MethodName)) ∈ lw_tbl := lw_at lw_m4 230 rfl
theorem q1068 : (Jvm.Cond.code ({ cls := "java/util/TreeMap$KeySet", name := "iterator", desc := "()Ljava/util/Iterator;" } : Jvm.MethodName) prog_88_method_2_code (1 : Nat) (Option.some (Jvm.ClassFile.FieldType.object "java/util/Iterator"))) ∈ lw_all := lw_g (lw_at lw_m4 231 rfl) rfl
theorem q1069 : (Jvm.Cond.classLink "java/util/TreeMap$KeySet" (13 : Nat) "java/util/TreeMap") ∈ lw_all := lw_g (lw_at lw_m4 232 rfl) rfl
theorem q1070 : (Jvm.Cond.methodLink "java/util/TreeMap$KeySet" (15 : Nat) ({ cls := "java/util/TreeMap", name := "keyIterator", desc := "()Ljava/util/Iterator;" } : Jvm.MethodName)) ∈ lw_all := lw_g (lw_at lw_m4 233 rfl) rfl
theorem q1071 : (Jvm.Cond.instanceMethod ({ cls := "java/util/TreeMap", name := "keyIterator", desc := "()Ljava/util/Iterator;" } : Jvm.MethodName)) ∈ lw_all := lw_g (lw_at lw_m4 234 rfl) rfl
theorem q1072 : (Jvm.Cond.selects "java/util/TreeMap" ({ cls := "java/util/TreeMap", name := "keyIterator", desc := "()Ljava/util/Iterator;" } : Jvm.MethodName) ({ cls := "java/util/TreeMap", name := "keyIterator", desc := "()Ljava/util/Iterator;" } : Jvm.MethodName)) ∈ lw_all := lw_g (lw_at lw_m4 235 rfl) rfl
theorem q1073 : (Jvm.Cond.code ({ cls := "java/util/TreeMap", name := "keyIterator", desc := "()Ljava/util/Iterator;" } : Jvm.MethodName) prog_83_method_65_code (1 : Nat) (Option.some (Jvm.ClassFile.FieldType.object "java/util/Iterator"))) ∈ lw_all := lw_g (lw_at lw_m4 236 rfl) rfl
theorem q1074 : (Jvm.Cond.classLink "java/util/TreeMap" (269 : Nat) "java/util/TreeMap$KeyIterator") ∈ lw_all := lw_g (lw_at lw_m4 237 rfl) rfl
theorem q1075 : (Jvm.Cond.instantiable "java/util/TreeMap$KeyIterator" (4 : Nat)) ∈ lw_all := lw_g (lw_at lw_m4 238 rfl) rfl
theorem q1076 : (Jvm.Cond.methodLink "java/util/TreeMap" (54 : Nat) ({ cls := "java/util/TreeMap", name := "getFirstEntry", desc := "()Ljava/util/TreeMap$Entry;" } : Jvm.MethodName)) ∈ lw_all := lw_g (lw_at lw_m4 239 rfl) rfl
theorem q1077 : (Jvm.Cond.methodLink "java/util/TreeMap" (271 : Nat) ({ cls := "java/util/TreeMap$KeyIterator", name := "<init>", desc := "(Ljava/util/TreeMap;Ljava/util/TreeMap$Entry;)V" } : Jvm.MethodName)) ∈ lw_all := lw_g (lw_at lw_m5 0 rfl) rfl
theorem q1078 : (Jvm.Cond.instanceMethod ({ cls := "java/util/TreeMap$KeyIterator", name := "<init>", desc := "(Ljava/util/TreeMap;Ljava/util/TreeMap$Entry;)V" } : Jvm.MethodName)) ∈ lw_all := lw_g (lw_at lw_m5 1 rfl) rfl
theorem q1079 : (Jvm.Cond.code ({ cls := "java/util/TreeMap$KeyIterator", name := "<init>", desc := "(Ljava/util/TreeMap;Ljava/util/TreeMap$Entry;)V" } : Jvm.MethodName) prog_87_method_1_code (3 : Nat) (Option.none : Option Jvm.ClassFile.FieldType)) ∈ lw_all := lw_g (lw_at lw_m5 2 rfl) rfl
theorem q1080 : (Jvm.Cond.methodLink "java/util/TreeMap$KeyIterator" (1 : Nat) ({ cls := "java/util/TreeMap$PrivateEntryIterator", name := "<init>", desc := "(Ljava/util/TreeMap;Ljava/util/TreeMap$Entry;)V" } : Jvm.MethodName)) ∈ lw_all := lw_g (lw_at lw_m5 3 rfl) rfl
theorem q1081 : (Jvm.Cond.lays "java/util/TreeMap$KeyIterator" "java/util/TreeMap$PrivateEntryIterator" "next" "Ljava/util/TreeMap$Entry;") ∈ lw_all := lw_g (lw_at lw_m5 4 rfl) rfl
theorem q1082 : (Jvm.Cond.lays "java/util/TreeMap$KeyIterator" "java/util/TreeMap$PrivateEntryIterator" "lastReturned" "Ljava/util/TreeMap$Entry;") ∈ lw_all := lw_g (lw_at lw_m5 5 rfl) rfl
theorem q1083 : (Jvm.Cond.lays "java/util/TreeMap$KeyIterator" "java/util/TreeMap$PrivateEntryIterator" "expectedModCount" "I") ∈ lw_all := lw_g (lw_at lw_m5 6 rfl) rfl
theorem q1084 : (Jvm.Cond.laysFinal "java/util/TreeMap$KeyIterator" "java/util/TreeMap$PrivateEntryIterator" "this$0" "Ljava/util/TreeMap;") ∈ lw_all := lw_g (lw_at lw_m5 7 rfl) rfl
theorem q1085 : (Jvm.Cond.superclass "java/util/TreeMap$KeyIterator" "java/util/TreeMap$PrivateEntryIterator") ∈ lw_all := lw_g (lw_at lw_m5 8 rfl) rfl
theorem q1086 : (Jvm.Cond.classLink "java/util/TreeMap$KeySet" (19 : Nat) "java/util/TreeMap$NavigableSubMap") ∈ lw_all := lw_g (lw_at lw_m5 9 rfl) rfl
theorem q1087 : (Jvm.Cond.methodLink "java/util/TreeMap$KeySet" (21 : Nat) ({ cls := "java/util/TreeMap$NavigableSubMap", name := "keyIterator", desc := "()Ljava/util/Iterator;" } : Jvm.MethodName)) ∈ lw_all := lw_g (lw_at lw_m5 10 rfl) rfl
theorem q1088 : (Jvm.Cond.declares ({ cls := "java/util/TreeMap$NavigableSubMap", name := "keyIterator", desc := "()Ljava/util/Iterator;" } : Jvm.MethodName)) ∈ lw_tbl := lw_at lw_m5 11 rfl
theorem q1089 : (Jvm.Cond.selects "java/util/TreeMap$NavigableSubMap" ({ cls := "java/util/TreeMap$NavigableSubMap", name := "keyIterator", desc := "()Ljava/util/Iterator;" } : Jvm.MethodName) ({ cls := "java/util/TreeMap$NavigableSubMap", name := "keyIterator", desc := "()Ljava/util/Iterator;" } : Jvm.MethodName)) ∈ lw_all := lw_g (lw_at lw_m5 12 rfl) rfl
theorem q1090 : (Jvm.Cond.castable "java/util/TreeMap$Values" "java/util/Collection") ∈ lw_tbl := lw_at lw_m5 13 rfl
theorem q1091 : (Jvm.Cond.selects "java/util/TreeMap$Values" ({ cls := "java/util/Collection", name := "iterator", desc := "()Ljava/util/Iterator;" } : Jvm.MethodName) ({ cls := "java/util/TreeMap$Values", name := "iterator", desc := "()Ljava/util/Iterator;" } : Jvm.MethodName)) ∈ lw_all := lw_g (lw_at lw_m5 14 rfl) rfl
theorem q1092 : (Jvm.Cond.unhidden "java/util/TreeMap$Values" "iterator" "()Ljava/util/Iterator;") ∈ lw_tbl := lw_at lw_m5 15 rfl
theorem q1093 : (Jvm.Cond.instanceMethod ({ cls := "java/util/TreeMap$Values", name := "iterator", desc := "()Ljava/util/Iterator;" } : Jvm.MethodName)) ∈ lw_all := lw_g (lw_at lw_m5 16 rfl) rfl
theorem q1094 : (Jvm.Cond.publicMethod ({ cls := "java/util/TreeMap$Values", name := "iterator", desc := "()Ljava/util/Iterator;" } : Jvm.MethodName)) ∈ lw_tbl := lw_at lw_m5 17 rfl
theorem q1095 : (Jvm.Cond.code ({ cls := "java/util/TreeMap$Values", name := "iterator", desc := "()Ljava/util/Iterator;" } : Jvm.MethodName) prog_92_method_2_code (1 : Nat) (Option.some (Jvm.ClassFile.FieldType.object "java/util/Iterator"))) ∈ lw_all := lw_g (lw_at lw_m5 18 rfl) rfl
theorem q1096 : (Jvm.Cond.classLink "java/util/TreeMap$Values" (13 : Nat) "java/util/TreeMap$ValueIterator") ∈ lw_all := lw_g (lw_at lw_m5 19 rfl) rfl
theorem q1097 : (Jvm.Cond.instantiable "java/util/TreeMap$ValueIterator" (4 : Nat)) ∈ lw_all := lw_g (lw_at lw_m5 20 rfl) rfl
theorem q1098 : (Jvm.Cond.methodLink "java/util/TreeMap$Values" (15 : Nat) ({ cls := "java/util/TreeMap", name := "getFirstEntry", desc := "()Ljava/util/TreeMap$Entry;" } : Jvm.MethodName)) ∈ lw_all := lw_g (lw_at lw_m5 21 rfl) rfl
theorem q1099 : (Jvm.Cond.methodLink "java/util/TreeMap$Values" (21 : Nat) ({ cls := "java/util/TreeMap$ValueIterator", name := "<init>", desc := "(Ljava/util/TreeMap;Ljava/util/TreeMap$Entry;)V" } : Jvm.MethodName)) ∈ lw_all := lw_g (lw_at lw_m5 22 rfl) rfl
theorem q1100 : (Jvm.Cond.instanceMethod ({ cls := "java/util/TreeMap$ValueIterator", name := "<init>", desc := "(Ljava/util/TreeMap;Ljava/util/TreeMap$Entry;)V" } : Jvm.MethodName)) ∈ lw_all := lw_g (lw_at lw_m5 23 rfl) rfl
theorem q1101 : (Jvm.Cond.code ({ cls := "java/util/TreeMap$ValueIterator", name := "<init>", desc := "(Ljava/util/TreeMap;Ljava/util/TreeMap$Entry;)V" } : Jvm.MethodName) prog_91_method_1_code (3 : Nat) (Option.none : Option Jvm.ClassFile.FieldType)) ∈ lw_all := lw_g (lw_at lw_m5 24 rfl) rfl
theorem q1102 : (Jvm.Cond.methodLink "java/util/TreeMap$ValueIterator" (1 : Nat) ({ cls := "java/util/TreeMap$PrivateEntryIterator", name := "<init>", desc := "(Ljava/util/TreeMap;Ljava/util/TreeMap$Entry;)V" } : Jvm.MethodName)) ∈ lw_all := lw_g (lw_at lw_m5 25 rfl) rfl
theorem q1103 : (Jvm.Cond.lays "java/util/TreeMap$ValueIterator" "java/util/TreeMap$PrivateEntryIterator" "next" "Ljava/util/TreeMap$Entry;") ∈ lw_all := lw_g (lw_at lw_m5 26 rfl) rfl
theorem q1104 : (Jvm.Cond.lays "java/util/TreeMap$ValueIterator" "java/util/TreeMap$PrivateEntryIterator" "lastReturned" "Ljava/util/TreeMap$Entry;") ∈ lw_all := lw_g (lw_at lw_m5 27 rfl) rfl
theorem q1105 : (Jvm.Cond.lays "java/util/TreeMap$ValueIterator" "java/util/TreeMap$PrivateEntryIterator" "expectedModCount" "I") ∈ lw_all := lw_g (lw_at lw_m5 28 rfl) rfl
theorem q1106 : (Jvm.Cond.laysFinal "java/util/TreeMap$ValueIterator" "java/util/TreeMap$PrivateEntryIterator" "this$0" "Ljava/util/TreeMap;") ∈ lw_all := lw_g (lw_at lw_m5 29 rfl) rfl
theorem q1107 : (Jvm.Cond.superclass "java/util/TreeMap$ValueIterator" "java/util/TreeMap$PrivateEntryIterator") ∈ lw_all := lw_g (lw_at lw_m5 30 rfl) rfl
theorem q1108 : (Jvm.Cond.castable "java/util/TreeSet" "java/util/Collection") ∈ lw_tbl := lw_at lw_m5 31 rfl
theorem q1109 : (Jvm.Cond.selects "java/util/TreeSet" ({ cls := "java/util/Collection", name := "iterator", desc := "()Ljava/util/Iterator;" } : Jvm.MethodName) ({ cls := "java/util/TreeSet", name := "iterator", desc := "()Ljava/util/Iterator;" } : Jvm.MethodName)) ∈ lw_all := lw_g (lw_at lw_m5 32 rfl) rfl
theorem q1110 : (Jvm.Cond.unhidden "java/util/TreeSet" "iterator" "()Ljava/util/Iterator;") ∈ lw_tbl := lw_at lw_m5 33 rfl
theorem q1111 : (Jvm.Cond.instanceMethod ({ cls := "java/util/TreeSet", name := "iterator", desc := "()Ljava/util/Iterator;" } : Jvm.MethodName)) ∈ lw_all := lw_g (lw_at lw_m5 34 rfl) rfl
theorem q1112 : (Jvm.Cond.publicMethod ({ cls := "java/util/TreeSet", name := "iterator", desc := "()Ljava/util/Iterator;" } : Jvm.MethodName)) ∈ lw_tbl := lw_at lw_m5 35 rfl
theorem q1113 : (Jvm.Cond.code ({ cls := "java/util/TreeSet", name := "iterator", desc := "()Ljava/util/Iterator;" } : Jvm.MethodName) prog_93_method_6_code (1 : Nat) (Option.some (Jvm.ClassFile.FieldType.object "java/util/Iterator"))) ∈ lw_all := lw_g (lw_at lw_m5 36 rfl) rfl
theorem q1114 : (Jvm.Cond.interfaceEntry "java/util/TreeSet" (34 : Nat)) ∈ lw_tbl := lw_at lw_m5 37 rfl
theorem q1115 : (Jvm.Cond.methodLink "java/util/TreeSet" (34 : Nat) ({ cls := "java/util/NavigableMap", name := "navigableKeySet", desc := "()Ljava/util/NavigableSet;" } : Jvm.MethodName)) ∈ lw_all := lw_g (lw_at lw_m5 38 rfl) rfl
theorem q1116 : (Jvm.Cond.interfaceMethod "java/util/NavigableMap" "java/util/NavigableMap" "navigableKeySet" "()Ljava/util/NavigableSet;") ∈ lw_tbl := lw_at lw_m5 39 rfl
theorem q1117 : (Jvm.Cond.declares ({ cls := "java/util/NavigableMap", name := "navigableKeySet", desc := "()Ljava/util/NavigableSet;" } : Jvm.MethodName)) ∈ lw_tbl := lw_at lw_m5 40 rfl
theorem q1118 : (Jvm.Cond.castable "java/util/TreeMap" "java/util/NavigableMap") ∈ lw_tbl := lw_at lw_m5 41 rfl
theorem q1119 : (Jvm.Cond.selects "java/util/TreeMap" ({ cls := "java/util/NavigableMap", name := "navigableKeySet", desc := "()Ljava/util/NavigableSet;" } : Jvm.MethodName) ({ cls := "java/util/TreeMap", name := "navigableKeySet", desc := "()Ljava/util/NavigableSet;" } : Jvm.MethodName)) ∈ lw_all := lw_g (lw_at lw_m5 42 rfl) rfl
theorem q1120 : (Jvm.Cond.unhidden "java/util/TreeMap" "navigableKeySet" "()Ljava/util/NavigableSet;") ∈ lw_tbl := lw_at lw_m5 43 rfl
theorem q1121 : (Jvm.Cond.instanceMethod ({ cls := "java/util/TreeMap", name := "navigableKeySet", desc := "()Ljava/util/NavigableSet;" } : Jvm.MethodName)) ∈ lw_all := lw_g (lw_at lw_m5 44 rfl) rfl
theorem q1122 : (Jvm.Cond.publicMethod ({ cls := "java/util/TreeMap", name := "navigableKeySet", desc := "()Ljava/util/NavigableSet;" } : Jvm.MethodName)) ∈ lw_tbl := lw_at lw_m5 45 rfl
theorem q1123 : (Jvm.Cond.code ({ cls := "java/util/TreeMap", name := "navigableKeySet", desc := "()Ljava/util/NavigableSet;" } : Jvm.MethodName) prog_83_method_50_code (2 : Nat) (Option.some (Jvm.ClassFile.FieldType.object "java/util/NavigableSet"))) ∈ lw_all := lw_g (lw_at lw_m5 46 rfl) rfl
theorem q1124 : (Jvm.Cond.classLink "java/util/TreeMap" (222 : Nat) "java/util/TreeMap$KeySet") ∈ lw_all := lw_g (lw_at lw_m5 47 rfl) rfl
theorem q1125 : (Jvm.Cond.instantiable "java/util/TreeMap$KeySet" (1 : Nat)) ∈ lw_all := lw_g (lw_at lw_m5 48 rfl) rfl
theorem q1126 : (Jvm.Cond.methodLink "java/util/TreeMap" (224 : Nat) ({ cls := "java/util/TreeMap$KeySet", name := "<init>", desc := "(Ljava/util/NavigableMap;)V" } : Jvm.MethodName)) ∈ lw_all := lw_g (lw_at lw_m5 49 rfl) rfl
theorem q1127 : (Jvm.Cond.instanceMethod ({ cls := "java/util/TreeMap$KeySet", name := "<init>", desc := "(Ljava/util/NavigableMap;)V" } : Jvm.MethodName)) ∈ lw_all := lw_g (lw_at lw_m5 50 rfl) rfl
theorem q1128 : (Jvm.Cond.code ({ cls := "java/util/TreeMap$KeySet", name := "<init>", desc := "(Ljava/util/NavigableMap;)V" } : Jvm.MethodName) prog_88_method_1_code (2 : Nat) (Option.none : Option Jvm.ClassFile.FieldType)) ∈ lw_all := lw_g (lw_at lw_m5 51 rfl) rfl
theorem q1129 : (Jvm.Cond.methodLink "java/util/TreeMap$KeySet" (1 : Nat) ({ cls := "java/util/AbstractSet", name := "<init>", desc := "()V" } : Jvm.MethodName)) ∈ lw_all := lw_g (lw_at lw_m5 52 rfl) rfl
theorem q1130 : (Jvm.Cond.instanceMethod ({ cls := "java/util/AbstractSet", name := "<init>", desc := "()V" } : Jvm.MethodName)) ∈ lw_all := lw_g (lw_at lw_m5 53 rfl) rfl
theorem q1131 : (Jvm.Cond.code ({ cls := "java/util/AbstractSet", name := "<init>", desc := "()V" } : Jvm.MethodName) prog_59_method_1_code (1 : Nat) (Option.none : Option Jvm.ClassFile.FieldType)) ∈ lw_all := lw_g (lw_at lw_m5 54 rfl) rfl
theorem q1132 : (Jvm.Cond.methodLink "java/util/AbstractSet" (1 : Nat) ({ cls := "java/util/AbstractCollection", name := "<init>", desc := "()V" } : Jvm.MethodName)) ∈ lw_all := lw_g (lw_at lw_m5 55 rfl) rfl
theorem q1133 : (Jvm.Cond.fieldLink "java/util/TreeMap$KeySet" (7 : Nat) "java/util/TreeMap$KeySet" "m" "Ljava/util/NavigableMap;") ∈ lw_all := lw_g (lw_at lw_m5 56 rfl) rfl
theorem q1134 : (Jvm.Cond.laysFinal "java/util/TreeMap$KeySet" "java/util/TreeMap$KeySet" "m" "Ljava/util/NavigableMap;") ∈ lw_all := lw_g (lw_at lw_m5 57 rfl) rfl
theorem q1135 : (Jvm.Cond.soleField "java/util/TreeMap$KeySet" "m") ∈ lw_all := lw_g (lw_at lw_m5 58 rfl) rfl
theorem q1136 : (Jvm.Cond.superclass "java/util/TreeMap$KeySet" "java/util/AbstractSet") ∈ lw_all := lw_g (lw_at lw_m5 59 rfl) rfl
theorem q1137 : (Jvm.Cond.interfaceEntry "java/util/TreeSet" (40 : Nat)) ∈ lw_tbl := lw_at lw_m5 60 rfl
theorem q1138 : (Jvm.Cond.methodLink "java/util/TreeSet" (40 : Nat) ({ cls := "java/util/NavigableSet", name := "iterator", desc := "()Ljava/util/Iterator;" } : Jvm.MethodName)) ∈ lw_all := lw_g (lw_at lw_m5 61 rfl) rfl
theorem q1139 : (Jvm.Cond.interfaceMethod "java/util/NavigableSet" "java/util/NavigableSet" "iterator" "()Ljava/util/Iterator;") ∈ lw_tbl := lw_at lw_m5 62 rfl
theorem q1140 : (Jvm.Cond.declares ({ cls := "java/util/NavigableSet", name := "iterator", desc := "()Ljava/util/Iterator;" } : Jvm.MethodName)) ∈ lw_tbl := lw_at lw_m5 63 rfl
theorem q1141 : (Jvm.Cond.castable "java/util/TreeMap$KeySet" "java/util/NavigableSet") ∈ lw_tbl := lw_at lw_m5 64 rfl
theorem q1142 : (Jvm.Cond.selects "java/util/TreeMap$KeySet" ({ cls := "java/util/NavigableSet", name := "iterator", desc := "()Ljava/util/Iterator;" } : Jvm.MethodName) ({ cls := "java/util/TreeMap$KeySet", name := "iterator", desc := "()Ljava/util/Iterator;" } : Jvm.MethodName)) ∈ lw_all := lw_g (lw_at lw_m5 65 rfl) rfl
theorem q1143 : (Jvm.Cond.castable "java/util/TreeSet" "java/util/NavigableSet") ∈ lw_tbl := lw_at lw_m5 66 rfl
theorem q1144 : (Jvm.Cond.selects "java/util/TreeSet" ({ cls := "java/util/NavigableSet", name := "iterator", desc := "()Ljava/util/Iterator;" } : Jvm.MethodName) ({ cls := "java/util/TreeSet", name := "iterator", desc := "()Ljava/util/Iterator;" } : Jvm.MethodName)) ∈ lw_all := lw_g (lw_at lw_m5 67 rfl) rfl
theorem q1145 : (Jvm.Cond.interfaceEntry "GangColumns" (86 : Nat)) ∈ lw_tbl := lw_at lw_m5 68 rfl
theorem q1146 : (Jvm.Cond.methodLink "GangColumns" (86 : Nat) ({ cls := "java/util/Iterator", name := "hasNext", desc := "()Z" } : Jvm.MethodName)) ∈ lw_all := lw_g (lw_at lw_m5 69 rfl) rfl
theorem q1147 : (Jvm.Cond.interfaceMethod "java/util/Iterator" "java/util/Iterator" "hasNext" "()Z") ∈ lw_tbl := lw_at lw_m5 70 rfl
theorem q1148 : (Jvm.Cond.declares ({ cls := "java/util/Iterator", name := "hasNext", desc := "()Z" } : Jvm.MethodName)) ∈ lw_tbl := lw_at lw_m5 71 rfl
theorem q1149 : (Jvm.Cond.castable "GangColumns$FreeRuns$1" "java/util/Iterator") ∈ lw_tbl := lw_at lw_m5 72 rfl
theorem q1150 : (Jvm.Cond.selects "GangColumns$FreeRuns$1" ({ cls := "java/util/Iterator", name := "hasNext", desc := "()Z" } : Jvm.MethodName) ({ cls := "GangColumns$FreeRuns$1", name := "hasNext", desc := "()Z" } : Jvm.MethodName)) ∈ lw_all := lw_g (lw_at lw_m5 73 rfl) rfl
theorem q1151 : (Jvm.Cond.unhidden "GangColumns$FreeRuns$1" "hasNext" "()Z") ∈ lw_tbl := lw_at lw_m5 74 rfl
theorem q1152 : (Jvm.Cond.instanceMethod ({ cls := "GangColumns$FreeRuns$1", name := "hasNext", desc := "()Z" } : Jvm.MethodName)) ∈ lw_all := lw_g (lw_at lw_m5 75 rfl) rfl
theorem q1153 : (Jvm.Cond.publicMethod ({ cls := "GangColumns$FreeRuns$1", name := "hasNext", desc := "()Z" } : Jvm.MethodName)) ∈ lw_tbl := lw_at lw_m5 76 rfl
theorem q1154 : (Jvm.Cond.code ({ cls := "GangColumns$FreeRuns$1", name := "hasNext", desc := "()Z" } : Jvm.MethodName) prog_15_method_3_code (1 : Nat) (Option.some Jvm.ClassFile.FieldType.boolean)) ∈ lw_all := lw_g (lw_at lw_m5 77 rfl) rfl
theorem q1155 : (Jvm.Cond.castable "java/util/ArrayList$Itr" "java/util/Iterator") ∈ lw_tbl := lw_at lw_m5 78 rfl
theorem q1156 : (Jvm.Cond.selects "java/util/ArrayList$Itr" ({ cls := "java/util/Iterator", name := "hasNext", desc := "()Z" } : Jvm.MethodName) ({ cls := "java/util/ArrayList$Itr", name := "hasNext", desc := "()Z" } : Jvm.MethodName)) ∈ lw_all := lw_g (lw_at lw_m5 79 rfl) rfl
theorem q1157 : (Jvm.Cond.unhidden "java/util/ArrayList$Itr" "hasNext" "()Z") ∈ lw_tbl := lw_at lw_m5 80 rfl
theorem q1158 : (Jvm.Cond.instanceMethod ({ cls := "java/util/ArrayList$Itr", name := "hasNext", desc := "()Z" } : Jvm.MethodName)) ∈ lw_all := lw_g (lw_at lw_m5 81 rfl) rfl
theorem q1159 : (Jvm.Cond.publicMethod ({ cls := "java/util/ArrayList$Itr", name := "hasNext", desc := "()Z" } : Jvm.MethodName)) ∈ lw_tbl := lw_at lw_m5 82 rfl
theorem q1160 : (Jvm.Cond.code ({ cls := "java/util/ArrayList$Itr", name := "hasNext", desc := "()Z" } : Jvm.MethodName) prog_62_method_2_code (1 : Nat) (Option.some Jvm.ClassFile.FieldType.boolean)) ∈ lw_all := lw_g (lw_at lw_m5 83 rfl) rfl
theorem q1161 : (Jvm.Cond.castable "java/util/PriorityQueue$Itr" "java/util/Iterator") ∈ lw_tbl := lw_at lw_m5 84 rfl
theorem q1162 : (Jvm.Cond.selects "java/util/PriorityQueue$Itr" ({ cls := "java/util/Iterator", name := "hasNext", desc := "()Z" } : Jvm.MethodName) ({ cls := "java/util/PriorityQueue$Itr", name := "hasNext", desc := "()Z" } : Jvm.MethodName)) ∈ lw_all := lw_g (lw_at lw_m5 85 rfl) rfl
theorem q1163 : (Jvm.Cond.unhidden "java/util/PriorityQueue$Itr" "hasNext" "()Z") ∈ lw_tbl := lw_at lw_m5 86 rfl
theorem q1164 : (Jvm.Cond.instanceMethod ({ cls := "java/util/PriorityQueue$Itr", name := "hasNext", desc := "()Z" } : Jvm.MethodName)) ∈ lw_all := lw_g (lw_at lw_m5 87 rfl) rfl
theorem q1165 : (Jvm.Cond.publicMethod ({ cls := "java/util/PriorityQueue$Itr", name := "hasNext", desc := "()Z" } : Jvm.MethodName)) ∈ lw_tbl := lw_at lw_m5 88 rfl
theorem q1166 : (Jvm.Cond.code ({ cls := "java/util/PriorityQueue$Itr", name := "hasNext", desc := "()Z" } : Jvm.MethodName) prog_74_method_2_code (1 : Nat) (Option.some Jvm.ClassFile.FieldType.boolean)) ∈ lw_all := lw_g (lw_at lw_m5 89 rfl) rfl
theorem q1167 : (Jvm.Cond.methodLink "java/util/PriorityQueue$Itr" (35 : Nat) ({ cls := "java/util/ArrayDeque", name := "isEmpty", desc := "()Z" } : Jvm.MethodName)) ∈ lw_all := lw_g (lw_at lw_m5 90 rfl) rfl
theorem q1168 : (Jvm.Cond.instanceMethod ({ cls := "java/util/ArrayDeque", name := "isEmpty", desc := "()Z" } : Jvm.MethodName)) ∈ lw_all := lw_g (lw_at lw_m5 91 rfl) rfl
theorem q1169 : (Jvm.Cond.selects "java/util/ArrayDeque" ({ cls := "java/util/ArrayDeque", name := "isEmpty", desc := "()Z" } : Jvm.MethodName) ({ cls := "java/util/ArrayDeque", name := "isEmpty", desc := "()Z" } : Jvm.MethodName)) ∈ lw_all := lw_g (lw_at lw_m5 92 rfl) rfl
theorem q1170 : (Jvm.Cond.code ({ cls := "java/util/ArrayDeque", name := "isEmpty", desc := "()Z" } : Jvm.MethodName) prog_60_method_38_code (1 : Nat) (Option.some Jvm.ClassFile.FieldType.boolean)) ∈ lw_all := lw_g (lw_at lw_m5 93 rfl) rfl
theorem q1171 : (Jvm.Cond.castable "java/util/TreeMap$EntryIterator" "java/util/Iterator") ∈ lw_tbl := lw_at lw_m5 94 rfl
theorem q1172 : (Jvm.Cond.selects "java/util/TreeMap$EntryIterator" ({ cls := "java/util/Iterator", name := "hasNext", desc := "()Z" } : Jvm.MethodName) ({ cls := "java/util/TreeMap$PrivateEntryIterator", name := "hasNext", desc := "()Z" } : Jvm.MethodName)) ∈ lw_all := lw_g (lw_at lw_m5 95 rfl) rfl
theorem q1173 : (Jvm.Cond.unhidden "java/util/TreeMap$EntryIterator" "hasNext" "()Z") ∈ lw_tbl := lw_at lw_m5 96 rfl
theorem q1174 : (Jvm.Cond.instanceMethod ({ cls := "java/util/TreeMap$PrivateEntryIterator", name := "hasNext", desc := "()Z" } : Jvm.MethodName)) ∈ lw_all := lw_g (lw_at lw_m5 97 rfl) rfl
theorem q1175 : (Jvm.Cond.publicMethod ({ cls := "java/util/TreeMap$PrivateEntryIterator", name := "hasNext", desc := "()Z" } : Jvm.MethodName)) ∈ lw_tbl := lw_at lw_m5 98 rfl
theorem q1176 : (Jvm.Cond.code ({ cls := "java/util/TreeMap$PrivateEntryIterator", name := "hasNext", desc := "()Z" } : Jvm.MethodName) prog_90_method_2_code (1 : Nat) (Option.some Jvm.ClassFile.FieldType.boolean)) ∈ lw_all := lw_g (lw_at lw_m5 99 rfl) rfl
theorem q1177 : (Jvm.Cond.castable "java/util/TreeMap$KeyIterator" "java/util/Iterator") ∈ lw_tbl := lw_at lw_m5 100 rfl
theorem q1178 : (Jvm.Cond.selects "java/util/TreeMap$KeyIterator" ({ cls := "java/util/Iterator", name := "hasNext", desc := "()Z" } : Jvm.MethodName) ({ cls := "java/util/TreeMap$PrivateEntryIterator", name := "hasNext", desc := "()Z" } : Jvm.MethodName)) ∈ lw_all := lw_g (lw_at lw_m5 101 rfl) rfl
theorem q1179 : (Jvm.Cond.unhidden "java/util/TreeMap$KeyIterator" "hasNext" "()Z") ∈ lw_tbl := lw_at lw_m5 102 rfl
theorem q1180 : (Jvm.Cond.castable "java/util/TreeMap$ValueIterator" "java/util/Iterator") ∈ lw_tbl := lw_at lw_m5 103 rfl
theorem q1181 : (Jvm.Cond.selects "java/util/TreeMap$ValueIterator" ({ cls := "java/util/Iterator", name := "hasNext", desc := "()Z" } : Jvm.MethodName) ({ cls := "java/util/TreeMap$PrivateEntryIterator", name := "hasNext", desc := "()Z" } : Jvm.MethodName)) ∈ lw_all := lw_g (lw_at lw_m5 104 rfl) rfl
theorem q1182 : (Jvm.Cond.unhidden "java/util/TreeMap$ValueIterator" "hasNext" "()Z") ∈ lw_tbl := lw_at lw_m5 105 rfl
theorem q1183 : (Jvm.Cond.interfaceEntry "GangColumns" (92 : Nat)) ∈ lw_tbl := lw_at lw_m5 106 rfl
theorem q1184 : (Jvm.Cond.methodLink "GangColumns" (92 : Nat) ({ cls := "java/util/Iterator", name := "next", desc := "()Ljava/lang/Object;" } : Jvm.MethodName)) ∈ lw_all := lw_g (lw_at lw_m5 107 rfl) rfl
theorem q1185 : (Jvm.Cond.interfaceMethod "java/util/Iterator" "java/util/Iterator" "next" "()Ljava/lang/Object;") ∈ lw_tbl := lw_at lw_m5 108 rfl
theorem q1186 : (Jvm.Cond.declares ({ cls := "java/util/Iterator", name := "next", desc := "()Ljava/lang/Object;" } : Jvm.MethodName)) ∈ lw_tbl := lw_at lw_m5 109 rfl
theorem q1187 : (Jvm.Cond.selects "GangColumns$FreeRuns$1" ({ cls := "java/util/Iterator", name := "next", desc := "()Ljava/lang/Object;" } : Jvm.MethodName) ({ cls := "GangColumns$FreeRuns$1", name := "next", desc := "()Ljava/lang/Object;" } : Jvm.MethodName)) ∈ lw_all := lw_g (lw_at lw_m5 110 rfl) rfl
theorem q1188 : (Jvm.Cond.unhidden "GangColumns$FreeRuns$1" "next" "()Ljava/lang/Object;") ∈ lw_tbl := lw_at lw_m5 111 rfl
theorem q1189 : (Jvm.Cond.instanceMethod ({ cls := "GangColumns$FreeRuns$1", name := "next", desc := "()Ljava/lang/Object;" } : Jvm.MethodName)) ∈ lw_all := lw_g (lw_at lw_m5 112 rfl) rfl
theorem q1190 : (Jvm.Cond.publicMethod ({ cls := "GangColumns$FreeRuns$1", name := "next", desc := "()Ljava/lang/Object;" } : Jvm.MethodName)) ∈ lw_tbl := lw_at lw_m5 113 rfl
theorem q1191 : (Jvm.Cond.code ({ cls := "GangColumns$FreeRuns$1", name := "next", desc := "()Ljava/lang/Object;" } : Jvm.MethodName) prog_15_method_5_code (1 : Nat) (Option.some (Jvm.ClassFile.FieldType.object "java/lang/Object"))) ∈ lw_all := lw_g (lw_at lw_m5 114 rfl) rfl
theorem q1192 : (Jvm.Cond.methodLink "GangColumns$FreeRuns$1" (34 : Nat) ({ cls := "GangColumns$FreeRuns$1", name := "next", desc := "()LGangColumns$Run;" } : Jvm.MethodName)) ∈ lw_all := lw_g (lw_at lw_m5 115 rfl) rfl
theorem q1193 : (Jvm.Cond.instanceMethod ({ cls := "GangColumns$FreeRuns$1", name := "next", desc := "()LGangColumns$Run;" } : Jvm.MethodName)) ∈ lw_all := lw_g (lw_at lw_m5 116 rfl) rfl
theorem q1194 : (Jvm.Cond.selects "GangColumns$FreeRuns$1" ({ cls := "GangColumns$FreeRuns$1", name := "next", desc := "()LGangColumns$Run;" } : Jvm.MethodName) ({ cls := "GangColumns$FreeRuns$1", name := "next", desc := "()LGangColumns$Run;" } : Jvm.MethodName)) ∈ lw_all := lw_g (lw_at lw_m5 117 rfl) rfl
theorem q1195 : (Jvm.Cond.code ({ cls := "GangColumns$FreeRuns$1", name := "next", desc := "()LGangColumns$Run;" } : Jvm.MethodName) prog_15_method_4_code (3 : Nat) (Option.some (Jvm.ClassFile.FieldType.object "GangColumns$Run"))) ∈ lw_all := lw_g (lw_at lw_m5 118 rfl) rfl
theorem q1196 : (Jvm.Cond.classLink "GangColumns$FreeRuns$1" (29 : Nat) "GangColumns$Run") ∈ lw_all := lw_g (lw_at lw_m5 119 rfl) rfl
theorem q1197 : (Jvm.Cond.instantiable "GangColumns$Run" (2 : Nat)) ∈ lw_all := lw_g (lw_at lw_m5 120 rfl) rfl
theorem q1198 : (Jvm.Cond.methodLink "GangColumns$FreeRuns$1" (31 : Nat) ({ cls := "GangColumns$Run", name := "<init>", desc := "(II)V" } : Jvm.MethodName)) ∈ lw_all := lw_g (lw_at lw_m5 121 rfl) rfl
theorem q1199 : (Jvm.Cond.instanceMethod ({ cls := "GangColumns$Run", name := "<init>", desc := "(II)V" } : Jvm.MethodName)) ∈ lw_all := lw_g (lw_at lw_m5 122 rfl) rfl
theorem q1200 : (Jvm.Cond.code ({ cls := "GangColumns$Run", name := "<init>", desc := "(II)V" } : Jvm.MethodName) prog_25_method_1_code (3 : Nat) (Option.none : Option Jvm.ClassFile.FieldType)) ∈ lw_all := lw_g (lw_at lw_m5 123 rfl) rfl
theorem q1201 : (Jvm.Cond.methodLink "GangColumns$Run" (1 : Nat) ({ cls := "java/lang/Object", name := "<init>", desc := "()V" } : Jvm.MethodName)) ∈ lw_all := lw_g (lw_at lw_m5 124 rfl) rfl
theorem q1202 : (Jvm.Cond.fieldLink "GangColumns$Run" (7 : Nat) "GangColumns$Run" "first" "I") ∈ lw_all := lw_g (lw_at lw_m5 125 rfl) rfl
theorem q1203 : (Jvm.Cond.fieldLinkNest "GangColumns$Moves" (118 : Nat) "GangColumns$Run" "first" "I" "GangColumns") ∈ lw_tbl := lw_at lw_m5 126 rfl
theorem q1204 : (Jvm.Cond.fieldLink "GangColumns$Run" (13 : Nat) "GangColumns$Run" "size" "I") ∈ lw_all := lw_g (lw_at lw_m5 127 rfl) rfl
theorem q1205 : (Jvm.Cond.fieldLinkNest "GangColumns$FreeRuns" (34 : Nat) "GangColumns$Run" "size" "I" "GangColumns") ∈ lw_tbl := lw_at lw_m5 128 rfl
theorem q1206 : (Jvm.Cond.laysFinal "GangColumns$Run" "GangColumns$Run" "first" "I") ∈ lw_all := lw_g (lw_at lw_m5 129 rfl) rfl
theorem q1207 : (Jvm.Cond.soleField "GangColumns$Run" "first") ∈ lw_all := lw_g (lw_at lw_m5 130 rfl) rfl
theorem q1208 : (Jvm.Cond.laysFinal "GangColumns$Run" "GangColumns$Run" "size" "I") ∈ lw_all := lw_g (lw_at lw_m5 131 rfl) rfl
theorem q1209 : (Jvm.Cond.soleField "GangColumns$Run" "size") ∈ lw_all := lw_g (lw_at lw_m5 132 rfl) rfl
theorem q1210 : (Jvm.Cond.superclass "GangColumns$Run" "java/lang/Object") ∈ lw_all := lw_g (lw_at lw_m5 133 rfl) rfl
theorem q1211 : (Jvm.Cond.methodLink "GangColumns$FreeRuns$1" (15 : Nat) ({ cls := "GangColumns$FreeRuns$1", name := "begin", desc := "(I)I" } : Jvm.MethodName)) ∈ lw_all := lw_g (lw_at lw_m5 134 rfl) rfl
theorem q1212 : (Jvm.Cond.privateMethod ({ cls := "GangColumns$FreeRuns$1", name := "begin", desc := "(I)I" } : Jvm.MethodName)) ∈ lw_tbl := lw_at lw_m5 135 rfl
theorem q1213 : (Jvm.Cond.instanceMethod ({ cls := "GangColumns$FreeRuns$1", name := "begin", desc := "(I)I" } : Jvm.MethodName)) ∈ lw_all := lw_g (lw_at lw_m5 136 rfl) rfl
theorem q1214 : (Jvm.Cond.instantiable "GangColumns$FreeRuns$1" (2 : Nat)) ∈ lw_all := lw_g (lw_at lw_m5 137 rfl) rfl
theorem q1215 : (Jvm.Cond.code ({ cls := "GangColumns$FreeRuns$1", name := "begin", desc := "(I)I" } : Jvm.MethodName) prog_15_method_2_code (3 : Nat) (Option.some Jvm.ClassFile.FieldType.int)) ∈ lw_all := lw_g (lw_at lw_m5 138 rfl) rfl
theorem q1216 : (Jvm.Cond.selects "java/util/ArrayList$Itr" ({ cls := "java/util/Iterator", name := "next", desc := "()Ljava/lang/Object;" } : Jvm.MethodName) ({ cls := "java/util/ArrayList$Itr", name := "next", desc := "()Ljava/lang/Object;" } : Jvm.MethodName)) ∈ lw_all := lw_g (lw_at lw_m5 139 rfl) rfl
theorem q1217 : (Jvm.Cond.unhidden "java/util/ArrayList$Itr" "next" "()Ljava/lang/Object;") ∈ lw_tbl := lw_at lw_m5 140 rfl
theorem q1218 : (Jvm.Cond.instanceMethod ({ cls := "java/util/ArrayList$Itr", name := "next", desc := "()Ljava/lang/Object;" } : Jvm.MethodName)) ∈ lw_all := lw_g (lw_at lw_m5 141 rfl) rfl
theorem q1219 : (Jvm.Cond.publicMethod ({ cls := "java/util/ArrayList$Itr", name := "next", desc := "()Ljava/lang/Object;" } : Jvm.MethodName)) ∈ lw_tbl := lw_at lw_m5 142 rfl
theorem q1220 : (Jvm.Cond.code ({ cls := "java/util/ArrayList$Itr", name := "next", desc := "()Ljava/lang/Object;" } : Jvm.MethodName) prog_62_method_3_code (3 : Nat) (Option.some (Jvm.ClassFile.FieldType.object "java/lang/Object"))) ∈ lw_all := lw_g (lw_at lw_m5 143 rfl) rfl
theorem q1221 : (Jvm.Cond.methodLink "java/util/ArrayList$Itr" (31 : Nat) ({ cls := "java/util/ArrayList$Itr", name := "checkForComodification", desc := "()V" } : Jvm.MethodName)) ∈ lw_all := lw_g (lw_at lw_m5 144 rfl) rfl
theorem q1222 : (Jvm.Cond.instanceMethod ({ cls := "java/util/ArrayList$Itr", name := "checkForComodification", desc := "()V" } : Jvm.MethodName)) ∈ lw_all := lw_g (lw_at lw_m5 145 rfl) rfl
theorem q1223 : (Jvm.Cond.selects "java/util/ArrayList$Itr" ({ cls := "java/util/ArrayList$Itr", name := "checkForComodification", desc := "()V" } : Jvm.MethodName) ({ cls := "java/util/ArrayList$Itr", name := "checkForComodification", desc := "()V" } : Jvm.MethodName)) ∈ lw_all := lw_g (lw_at lw_m5 146 rfl) rfl
theorem q1224 : (Jvm.Cond.code ({ cls := "java/util/ArrayList$Itr", name := "checkForComodification", desc := "()V" } : Jvm.MethodName) prog_62_method_6_code (1 : Nat) (Option.none : Option Jvm.ClassFile.FieldType)) ∈ lw_all := lw_g (lw_at lw_m5 147 rfl) rfl
theorem q1225 : (Jvm.Cond.selects "java/util/PriorityQueue$Itr" ({ cls := "java/util/Iterator", name := "next", desc := "()Ljava/lang/Object;" } : Jvm.MethodName) ({ cls := "java/util/PriorityQueue$Itr", name := "next", desc := "()Ljava/lang/Object;" } : Jvm.MethodName)) ∈ lw_all := lw_g (lw_at lw_m5 148 rfl) rfl
theorem q1226 : (Jvm.Cond.unhidden "java/util/PriorityQueue$Itr" "next" "()Ljava/lang/Object;") ∈ lw_tbl := lw_at lw_m5 149 rfl
theorem q1227 : (Jvm.Cond.instanceMethod ({ cls := "java/util/PriorityQueue$Itr", name := "next", desc := "()Ljava/lang/Object;" } : Jvm.MethodName)) ∈ lw_all := lw_g (lw_at lw_m5 150 rfl) rfl
theorem q1228 : (Jvm.Cond.publicMethod ({ cls := "java/util/PriorityQueue$Itr", name := "next", desc := "()Ljava/lang/Object;" } : Jvm.MethodName)) ∈ lw_tbl := lw_at lw_m5 151 rfl
theorem q1229 : (Jvm.Cond.code ({ cls := "java/util/PriorityQueue$Itr", name := "next", desc := "()Ljava/lang/Object;" } : Jvm.MethodName) prog_74_method_3_code (1 : Nat) (Option.some (Jvm.ClassFile.FieldType.object "java/lang/Object"))) ∈ lw_all := lw_g (lw_at lw_m5 152 rfl) rfl
theorem q1230 : (Jvm.Cond.methodLink "java/util/PriorityQueue$Itr" (48 : Nat) ({ cls := "java/util/ArrayDeque", name := "poll", desc := "()Ljava/lang/Object;" } : Jvm.MethodName)) ∈ lw_all := lw_g (lw_at lw_m5 153 rfl) rfl
theorem q1231 : (Jvm.Cond.instanceMethod ({ cls := "java/util/ArrayDeque", name := "poll", desc := "()Ljava/lang/Object;" } : Jvm.MethodName)) ∈ lw_all := lw_g (lw_at lw_m5 154 rfl) rfl
theorem q1232 : (Jvm.Cond.selects "java/util/ArrayDeque" ({ cls := "java/util/ArrayDeque", name := "poll", desc := "()Ljava/lang/Object;" } : Jvm.MethodName) ({ cls := "java/util/ArrayDeque", name := "poll", desc := "()Ljava/lang/Object;" } : Jvm.MethodName)) ∈ lw_all := lw_g (lw_at lw_m5 155 rfl) rfl
theorem q1233 : (Jvm.Cond.code ({ cls := "java/util/ArrayDeque", name := "poll", desc := "()Ljava/lang/Object;" } : Jvm.MethodName) prog_60_method_31_code (1 : Nat) (Option.some (Jvm.ClassFile.FieldType.object "java/lang/Object"))) ∈ lw_all := lw_g (lw_at lw_m5 156 rfl) rfl
theorem q1234 : (Jvm.Cond.methodLink "java/util/ArrayDeque" (93 : Nat) ({ cls := "java/util/ArrayDeque", name := "pollFirst", desc := "()Ljava/lang/Object;" } : Jvm.MethodName)) ∈ lw_all := lw_g (lw_at lw_m5 157 rfl) rfl
theorem q1235 : (Jvm.Cond.instanceMethod ({ cls := "java/util/ArrayDeque", name := "pollFirst", desc := "()Ljava/lang/Object;" } : Jvm.MethodName)) ∈ lw_all := lw_g (lw_at lw_m5 158 rfl) rfl
theorem q1236 : (Jvm.Cond.selects "java/util/ArrayDeque" ({ cls := "java/util/ArrayDeque", name := "pollFirst", desc := "()Ljava/lang/Object;" } : Jvm.MethodName) ({ cls := "java/util/ArrayDeque", name := "pollFirst", desc := "()Ljava/lang/Object;" } : Jvm.MethodName)) ∈ lw_all := lw_g (lw_at lw_m5 159 rfl) rfl
theorem q1237 : (Jvm.Cond.code ({ cls := "java/util/ArrayDeque", name := "pollFirst", desc := "()Ljava/lang/Object;" } : Jvm.MethodName) prog_60_method_20_code (4 : Nat) (Option.some (Jvm.ClassFile.FieldType.object "java/lang/Object"))) ∈ lw_all := lw_g (lw_at lw_m5 160 rfl) rfl
theorem q1238 : (Jvm.Cond.methodLink "java/util/ArrayDeque" (103 : Nat) ({ cls := "java/util/ArrayDeque", name := "elementAt", desc := "([Ljava/lang/Object;I)Ljava/lang/Object;" } : Jvm.MethodName)) ∈ lw_all := lw_g (lw_at lw_m5 161 rfl) rfl
theorem q1239 : (Jvm.Cond.static ({ cls := "java/util/ArrayDeque", name := "elementAt", desc := "([Ljava/lang/Object;I)Ljava/lang/Object;" } : Jvm.MethodName)) ∈ lw_all := lw_g (lw_at lw_m5 162 rfl) rfl
theorem q1240 : (Jvm.Cond.code ({ cls := "java/util/ArrayDeque", name := "elementAt", desc := "([Ljava/lang/Object;I)Ljava/lang/Object;" } : Jvm.MethodName) prog_60_method_10_code (2 : Nat) (Option.some (Jvm.ClassFile.FieldType.object "java/lang/Object"))) ∈ lw_all := lw_g (lw_at lw_m5 163 rfl) rfl
theorem q1241 : (Jvm.Cond.methodLink "java/util/ArrayDeque" (74 : Nat) ({ cls := "java/util/ArrayDeque", name := "inc", desc := "(II)I" } : Jvm.MethodName)) ∈ lw_all := lw_g (lw_at lw_m5 164 rfl) rfl
theorem q1242 : (Jvm.Cond.static ({ cls := "java/util/ArrayDeque", name := "inc", desc := "(II)I" } : Jvm.MethodName)) ∈ lw_all := lw_g (lw_at lw_m5 165 rfl) rfl
theorem q1243 : (Jvm.Cond.code ({ cls := "java/util/ArrayDeque", name := "inc", desc := "(II)I" } : Jvm.MethodName) prog_60_method_6_code (2 : Nat) (Option.some Jvm.ClassFile.FieldType.int)) ∈ lw_all := lw_g (lw_at lw_m5 166 rfl) rfl
theorem q1244 : (Jvm.Cond.selects "java/util/TreeMap$EntryIterator" ({ cls := "java/util/Iterator", name := "next", desc := "()Ljava/lang/Object;" } : Jvm.MethodName) ({ cls := "java/util/TreeMap$EntryIterator", name := "next", desc := "()Ljava/lang/Object;" } : Jvm.MethodName)) ∈ lw_all := lw_g (lw_at lw_m5 167 rfl) rfl
theorem q1245 : (Jvm.Cond.unhidden "java/util/TreeMap$EntryIterator" "next" "()Ljava/lang/Object;") ∈ lw_tbl := lw_at lw_m5 168 rfl
theorem q1246 : (Jvm.Cond.instanceMethod ({ cls := "java/util/TreeMap$EntryIterator", name := "next", desc := "()Ljava/lang/Object;" } : Jvm.MethodName)) ∈ lw_all := lw_g (lw_at lw_m5 169 rfl) rfl
theorem q1247 : (Jvm.Cond.publicMethod ({ cls := "java/util/TreeMap$EntryIterator", name := "next", desc := "()Ljava/lang/Object;" } : Jvm.MethodName)) ∈ lw_tbl := lw_at lw_m5 170 rfl
theorem q1248 : (Jvm.Cond.code ({ cls := "java/util/TreeMap$EntryIterator", name := "next", desc := "()Ljava/lang/Object;" } : Jvm.MethodName) prog_85_method_3_code (1 : Nat) (Option.some (Jvm.ClassFile.FieldType.object "java/lang/Object"))) ∈ lw_all := lw_g (lw_at lw_m5 171 rfl) rfl
theorem q1249 : (Jvm.Cond.methodLink "java/util/TreeMap$EntryIterator" (13 : Nat) ({ cls := "java/util/TreeMap$EntryIterator", name := "next", desc := "()Ljava/util/Map$Entry;" } : Jvm.MethodName)) ∈ lw_all := lw_g (lw_at lw_m5 172 rfl) rfl
theorem q1250 : (Jvm.Cond.instanceMethod ({ cls := "java/util/TreeMap$EntryIterator", name := "next", desc := "()Ljava/util/Map$Entry;" } : Jvm.MethodName)) ∈ lw_all := lw_g (lw_at lw_m5 173 rfl) rfl
theorem q1251 : (Jvm.Cond.selects "java/util/TreeMap$EntryIterator" ({ cls := "java/util/TreeMap$EntryIterator", name := "next", desc := "()Ljava/util/Map$Entry;" } : Jvm.MethodName) ({ cls := "java/util/TreeMap$EntryIterator", name := "next", desc := "()Ljava/util/Map$Entry;" } : Jvm.MethodName)) ∈ lw_all := lw_g (lw_at lw_m5 174 rfl) rfl
theorem q1252 : (Jvm.Cond.code ({ cls := "java/util/TreeMap$EntryIterator", name := "next", desc := "()Ljava/util/Map$Entry;" } : Jvm.MethodName) prog_85_method_2_code (1 : Nat) (Option.some (Jvm.ClassFile.FieldType.object "java/util/Map$Entry"))) ∈ lw_all := lw_g (lw_at lw_m5 175 rfl) rfl
theorem q1253 : (Jvm.Cond.methodLink "java/util/TreeMap$EntryIterator" (7 : Nat) ({ cls := "java/util/TreeMap$EntryIterator", name := "nextEntry", desc := "()Ljava/util/TreeMap$Entry;" } : Jvm.MethodName)) ∈ lw_all := lw_g (lw_at lw_m5 176 rfl) rfl
theorem q1254 : (Jvm.Cond.sameMethod "java/util/TreeMap$EntryIterator" "java/util/TreeMap$PrivateEntryIterator" "nextEntry" "()Ljava/util/TreeMap$Entry;") ∈ lw_all := lw_g (lw_at lw_m5 177 rfl) rfl
theorem q1255 : (Jvm.Cond.declares ({ cls := "java/util/TreeMap$PrivateEntryIterator", name := "nextEntry", desc := "()Ljava/util/TreeMap$Entry;" } : Jvm.MethodName)) ∈ lw_tbl := lw_at lw_m5 178 rfl
theorem q1256 : (Jvm.Cond.selects "java/util/TreeMap$EntryIterator" ({ cls := "java/util/TreeMap$EntryIterator", name := "nextEntry", desc := "()Ljava/util/TreeMap$Entry;" } : Jvm.MethodName) ({ cls := "java/util/TreeMap$PrivateEntryIterator", name := "nextEntry", desc := "()Ljava/util/TreeMap$Entry;" } : Jvm.MethodName)) ∈ lw_all := lw_g (lw_at lw_m5 179 rfl) rfl
theorem q1257 : (Jvm.Cond.instanceMethod ({ cls := "java/util/TreeMap$PrivateEntryIterator", name := "nextEntry", desc := "()Ljava/util/TreeMap$Entry;" } : Jvm.MethodName)) ∈ lw_all := lw_g (lw_at lw_m5 180 rfl) rfl
theorem q1258 : (Jvm.Cond.code ({ cls := "java/util/TreeMap$PrivateEntryIterator", name := "nextEntry", desc := "()Ljava/util/TreeMap$Entry;" } : Jvm.MethodName) prog_90_method_3_code (2 : Nat) (Option.some (Jvm.ClassFile.FieldType.object "java/util/TreeMap$Entry"))) ∈ lw_all := lw_g (lw_at lw_m5 181 rfl) rfl
theorem q1259 : (Jvm.Cond.methodLink "java/util/TreeMap$PrivateEntryIterator" (35 : Nat) ({ cls := "java/util/TreeMap", name := "successor", desc := "(Ljava/util/TreeMap$Entry;)Ljava/util/TreeMap$Entry;" } : Jvm.MethodName)) ∈ lw_all := lw_g (lw_at lw_m5 182 rfl) rfl
theorem q1260 : (Jvm.Cond.static ({ cls := "java/util/TreeMap", name := "successor", desc := "(Ljava/util/TreeMap$Entry;)Ljava/util/TreeMap$Entry;" } : Jvm.MethodName)) ∈ lw_all := lw_g (lw_at lw_m5 183 rfl) rfl
theorem q1261 : (Jvm.Cond.code ({ cls := "java/util/TreeMap", name := "successor", desc := "(Ljava/util/TreeMap$Entry;)Ljava/util/TreeMap$Entry;" } : Jvm.MethodName) prog_83_method_74_code (3 : Nat) (Option.some (Jvm.ClassFile.FieldType.object "java/util/TreeMap$Entry"))) ∈ lw_all := lw_g (lw_at lw_m5 184 rfl) rfl
theorem q1262 : (Jvm.Cond.selects "java/util/TreeMap$KeyIterator" ({ cls := "java/util/Iterator", name := "next", desc := "()Ljava/lang/Object;" } : Jvm.MethodName) ({ cls := "java/util/TreeMap$KeyIterator", name := "next", desc := "()Ljava/lang/Object;" } : Jvm.MethodName)) ∈ lw_all := lw_g (lw_at lw_m5 185 rfl) rfl
theorem q1263 : (Jvm.Cond.unhidden "java/util/TreeMap$KeyIterator" "next" "()Ljava/lang/Object;") ∈ lw_tbl := lw_at lw_m5 186 rfl
theorem q1264 : (Jvm.Cond.instanceMethod ({ cls := "java/util/TreeMap$KeyIterator", name := "next", desc := "()Ljava/lang/Object;" } : Jvm.MethodName)) ∈ lw_all := lw_g (lw_at lw_m5 187 rfl) rfl
theorem q1265 : (Jvm.Cond.publicMethod ({ cls := "java/util/TreeMap$KeyIterator", name := "next", desc := "()Ljava/lang/Object;" } : Jvm.MethodName)) ∈ lw_tbl := lw_at lw_m5 188 rfl
theorem q1266 : (Jvm.Cond.code ({ cls := "java/util/TreeMap$KeyIterator", name := "next", desc := "()Ljava/lang/Object;" } : Jvm.MethodName) prog_87_method_2_code (1 : Nat) (Option.some (Jvm.ClassFile.FieldType.object "java/lang/Object"))) ∈ lw_all := lw_g (lw_at lw_m5 189 rfl) rfl
theorem q1267 : (Jvm.Cond.methodLink "java/util/TreeMap$KeyIterator" (7 : Nat) ({ cls := "java/util/TreeMap$KeyIterator", name := "nextEntry", desc := "()Ljava/util/TreeMap$Entry;" } : Jvm.MethodName)) ∈ lw_all := lw_g (lw_at lw_m5 190 rfl) rfl
theorem q1268 : (Jvm.Cond.sameMethod "java/util/TreeMap$KeyIterator" "java/util/TreeMap$PrivateEntryIterator" "nextEntry" "()Ljava/util/TreeMap$Entry;") ∈ lw_all := lw_g (lw_at lw_m5 191 rfl) rfl
theorem q1269 : (Jvm.Cond.selects "java/util/TreeMap$KeyIterator" ({ cls := "java/util/TreeMap$KeyIterator", name := "nextEntry", desc := "()Ljava/util/TreeMap$Entry;" } : Jvm.MethodName) ({ cls := "java/util/TreeMap$PrivateEntryIterator", name := "nextEntry", desc := "()Ljava/util/TreeMap$Entry;" } : Jvm.MethodName)) ∈ lw_all := lw_g (lw_at lw_m5 192 rfl) rfl
theorem q1270 : (Jvm.Cond.selects "java/util/TreeMap$ValueIterator" ({ cls := "java/util/Iterator", name := "next", desc := "()Ljava/lang/Object;" } : Jvm.MethodName) ({ cls := "java/util/TreeMap$ValueIterator", name := "next", desc := "()Ljava/lang/Object;" } : Jvm.MethodName)) ∈ lw_all := lw_g (lw_at lw_m5 193 rfl) rfl
theorem q1271 : (Jvm.Cond.unhidden "java/util/TreeMap$ValueIterator" "next" "()Ljava/lang/Object;") ∈ lw_tbl := lw_at lw_m5 194 rfl
theorem q1272 : (Jvm.Cond.instanceMethod ({ cls := "java/util/TreeMap$ValueIterator", name := "next", desc := "()Ljava/lang/Object;" } : Jvm.MethodName)) ∈ lw_all := lw_g (lw_at lw_m5 195 rfl) rfl
theorem q1273 : (Jvm.Cond.publicMethod ({ cls := "java/util/TreeMap$ValueIterator", name := "next", desc := "()Ljava/lang/Object;" } : Jvm.MethodName)) ∈ lw_tbl := lw_at lw_m5 196 rfl
theorem q1274 : (Jvm.Cond.code ({ cls := "java/util/TreeMap$ValueIterator", name := "next", desc := "()Ljava/lang/Object;" } : Jvm.MethodName) prog_91_method_2_code (1 : Nat) (Option.some (Jvm.ClassFile.FieldType.object "java/lang/Object"))) ∈ lw_all := lw_g (lw_at lw_m5 197 rfl) rfl
theorem q1275 : (Jvm.Cond.methodLink "java/util/TreeMap$ValueIterator" (7 : Nat) ({ cls := "java/util/TreeMap$ValueIterator", name := "nextEntry", desc := "()Ljava/util/TreeMap$Entry;" } : Jvm.MethodName)) ∈ lw_all := lw_g (lw_at lw_m5 198 rfl) rfl
theorem q1276 : (Jvm.Cond.sameMethod "java/util/TreeMap$ValueIterator" "java/util/TreeMap$PrivateEntryIterator" "nextEntry" "()Ljava/util/TreeMap$Entry;") ∈ lw_all := lw_g (lw_at lw_m5 199 rfl) rfl
theorem q1277 : (Jvm.Cond.selects "java/util/TreeMap$ValueIterator" ({ cls := "java/util/TreeMap$ValueIterator", name := "nextEntry", desc := "()Ljava/util/TreeMap$Entry;" } : Jvm.MethodName) ({ cls := "java/util/TreeMap$PrivateEntryIterator", name := "nextEntry", desc := "()Ljava/util/TreeMap$Entry;" } : Jvm.MethodName)) ∈ lw_all := lw_g (lw_at lw_m5 200 rfl) rfl
theorem q1278 : (Jvm.Cond.classLink "GangColumns" (96 : Nat) "java/lang/Integer") ∈ lw_all := lw_g (lw_at lw_m5 201 rfl) rfl
theorem q1279 : (Jvm.Cond.methodLink "GangColumns" (98 : Nat) ({ cls := "java/lang/Integer", name := "intValue", desc := "()I" } : Jvm.MethodName)) ∈ lw_all := lw_g (lw_at lw_m5 202 rfl) rfl
theorem q1280 : (Jvm.Cond.instanceMethod ({ cls := "java/lang/Integer", name := "intValue", desc := "()I" } : Jvm.MethodName)) ∈ lw_all := lw_g (lw_at lw_m5 203 rfl) rfl
theorem q1281 : (Jvm.Cond.selects "java/lang/Integer" ({ cls := "java/lang/Integer", name := "intValue", desc := "()I" } : Jvm.MethodName) ({ cls := "java/lang/Integer", name := "intValue", desc := "()I" } : Jvm.MethodName)) ∈ lw_all := lw_g (lw_at lw_m5 204 rfl) rfl
theorem q1282 : (Jvm.Cond.code ({ cls := "java/lang/Integer", name := "intValue", desc := "()I" } : Jvm.MethodName) prog_41_method_27_code (1 : Nat) (Option.some Jvm.ClassFile.FieldType.int)) ∈ lw_all := lw_g (lw_at lw_m5 205 rfl) rfl
theorem q1283 : (Jvm.Cond.methodLink "GangColumnsLaw" (27 : Nat) ({ cls := "GangColumns", name := "rule", desc := "(II)I" } : Jvm.MethodName)) ∈ lw_all := lw_g (lw_at lw_m5 206 rfl) rfl
theorem q1284 : (Jvm.Cond.instanceMethod ({ cls := "GangColumns", name := "rule", desc := "(II)I" } : Jvm.MethodName)) ∈ lw_all := lw_g (lw_at lw_m5 207 rfl) rfl
theorem q1285 : (Jvm.Cond.selects "GangColumns" ({ cls := "GangColumns", name := "rule", desc := "(II)I" } : Jvm.MethodName) ({ cls := "GangColumns", name := "rule", desc := "(II)I" } : Jvm.MethodName)) ∈ lw_all := lw_g (lw_at lw_m5 208 rfl) rfl
theorem q1286 : (Jvm.Cond.code ({ cls := "GangColumns", name := "rule", desc := "(II)I" } : Jvm.MethodName) prog_1_method_12_code (3 : Nat) (Option.some Jvm.ClassFile.FieldType.int)) ∈ lw_all := lw_g (lw_at lw_m5 209 rfl) rfl
theorem q1287 : (Jvm.Cond.methodLink "GangColumns" (114 : Nat) ({ cls := "GangColumns", name := "isRule", desc := "(II)Z" } : Jvm.MethodName)) ∈ lw_all := lw_g (lw_at lw_m5 210 rfl) rfl
theorem q1288 : (Jvm.Cond.static ({ cls := "GangColumns", name := "isRule", desc := "(II)Z" } : Jvm.MethodName)) ∈ lw_all := lw_g (lw_at lw_m5 211 rfl) rfl
theorem q1289 : (Jvm.Cond.code ({ cls := "GangColumns", name := "isRule", desc := "(II)Z" } : Jvm.MethodName) prog_1_method_10_code (2 : Nat) (Option.some Jvm.ClassFile.FieldType.boolean)) ∈ lw_all := lw_g (lw_at lw_m5 212 rfl) rfl
theorem q1290 : (Jvm.Cond.constantLong "GangColumns" (101 : Nat) (4 : Int64)) ∈ lw_all := lw_g (lw_at lw_m5 213 rfl) rfl
theorem q1291 : (Jvm.Cond.constantLong "GangColumns" (103 : Nat) (80 : Int64)) ∈ lw_all := lw_g (lw_at lw_m5 214 rfl) rfl
theorem q1292 : (Jvm.Cond.methodLink "GangColumns" (118 : Nat) ({ cls := "GangColumns", name := "ruled", desc := "(LGangColumns$Cluster;II)I" } : Jvm.MethodName)) ∈ lw_all := lw_g (lw_at lw_m5 215 rfl) rfl
theorem q1293 : (Jvm.Cond.static ({ cls := "GangColumns", name := "ruled", desc := "(LGangColumns$Cluster;II)I" } : Jvm.MethodName)) ∈ lw_all := lw_g (lw_at lw_m5 216 rfl) rfl
theorem q1294 : (Jvm.Cond.code ({ cls := "GangColumns", name := "ruled", desc := "(LGangColumns$Cluster;II)I" } : Jvm.MethodName) prog_1_method_11_code (4 : Nat) (Option.some Jvm.ClassFile.FieldType.int)) ∈ lw_all := lw_g (lw_at lw_m5 217 rfl) rfl
theorem q1295 : (Jvm.Cond.methodLink "GangColumnsLaw" (31 : Nat) ({ cls := "GangColumns", name := "used", desc := "(I)J" } : Jvm.MethodName)) ∈ lw_all := lw_g (lw_at lw_m5 218 rfl) rfl
theorem q1296 : (Jvm.Cond.instanceMethod ({ cls := "GangColumns", name := "used", desc := "(I)J" } : Jvm.MethodName)) ∈ lw_all := lw_g (lw_at lw_m5 219 rfl) rfl
theorem q1297 : (Jvm.Cond.selects "GangColumns" ({ cls := "GangColumns", name := "used", desc := "(I)J" } : Jvm.MethodName) ({ cls := "GangColumns", name := "used", desc := "(I)J" } : Jvm.MethodName)) ∈ lw_all := lw_g (lw_at lw_m5 220 rfl) rfl
theorem q1298 : (Jvm.Cond.code ({ cls := "GangColumns", name := "used", desc := "(I)J" } : Jvm.MethodName) prog_1_method_13_code (2 : Nat) (Option.some Jvm.ClassFile.FieldType.long)) ∈ lw_all := lw_g (lw_at lw_m5 221 rfl) rfl
theorem q1299 : (Jvm.Cond.constantLong "GangColumns" (126 : Nat) (-1 : Int64)) ∈ lw_all := lw_g (lw_at lw_m5 222 rfl) rfl
theorem q1300 : (Jvm.Cond.methodLink "GangColumnsLaw" (40 : Nat) ({ cls := "GangColumns", name := "job", desc := "(IIII)I" } : Jvm.MethodName)) ∈ lw_all := lw_g (lw_at lw_m5 223 rfl) rfl
theorem q1301 : (Jvm.Cond.instanceMethod ({ cls := "GangColumns", name := "job", desc := "(IIII)I" } : Jvm.MethodName)) ∈ lw_all := lw_g (lw_at lw_m5 224 rfl) rfl
theorem q1302 : (Jvm.Cond.selects "GangColumns" ({ cls := "GangColumns", name := "job", desc := "(IIII)I" } : Jvm.MethodName) ({ cls := "GangColumns", name := "job", desc := "(IIII)I" } : Jvm.MethodName)) ∈ lw_all := lw_g (lw_at lw_m5 225 rfl) rfl
theorem q1303 : (Jvm.Cond.code ({ cls := "GangColumns", name := "job", desc := "(IIII)I" } : Jvm.MethodName) prog_1_method_14_code (8 : Nat) (Option.some Jvm.ClassFile.FieldType.int)) ∈ lw_all := lw_g (lw_at lw_m5 226 rfl) rfl
theorem q1304 : (Jvm.Cond.constantLong "GangColumns" (128 : Nat) (9 : Int64)) ∈ lw_all := lw_g (lw_at lw_m5 227 rfl) rfl
theorem q1305 : (Jvm.Cond.constantLong "GangColumns" (130 : Nat) (150 : Int64)) ∈ lw_all := lw_g (lw_at lw_m5 228 rfl) rfl
theorem q1306 : (Jvm.Cond.methodLink "GangColumns" (132 : Nat) ({ cls := "GangColumns", name := "jobAt", desc := "(I)LGangColumns$Job;" } : Jvm.MethodName)) ∈ lw_all := lw_g (lw_at lw_m5 229 rfl) rfl
theorem q1307 : (Jvm.Cond.privateMethod ({ cls := "GangColumns", name := "jobAt", desc := "(I)LGangColumns$Job;" } : Jvm.MethodName)) ∈ lw_tbl := lw_at lw_m5 230 rfl
theorem q1308 : (Jvm.Cond.instanceMethod ({ cls := "GangColumns", name := "jobAt", desc := "(I)LGangColumns$Job;" } : Jvm.MethodName)) ∈ lw_all := lw_g (lw_at lw_m5 231 rfl) rfl
theorem q1309 : (Jvm.Cond.code ({ cls := "GangColumns", name := "jobAt", desc := "(I)LGangColumns$Job;" } : Jvm.MethodName) prog_1_method_6_code (2 : Nat) (Option.some (Jvm.ClassFile.FieldType.object "GangColumns$Job"))) ∈ lw_all := lw_g (lw_at lw_m5 232 rfl) rfl
theorem q1310 : (Jvm.Cond.methodLink "GangColumns" (43 : Nat) ({ cls := "java/util/ArrayList", name := "size", desc := "()I" } : Jvm.MethodName)) ∈ lw_all := lw_g (lw_at lw_m5 233 rfl) rfl
theorem q1311 : (Jvm.Cond.instanceMethod ({ cls := "java/util/ArrayList", name := "size", desc := "()I" } : Jvm.MethodName)) ∈ lw_all := lw_g (lw_at lw_m5 234 rfl) rfl
theorem q1312 : (Jvm.Cond.selects "java/util/ArrayList" ({ cls := "java/util/ArrayList", name := "size", desc := "()I" } : Jvm.MethodName) ({ cls := "java/util/ArrayList", name := "size", desc := "()I" } : Jvm.MethodName)) ∈ lw_all := lw_g (lw_at lw_m5 235 rfl) rfl
theorem q1313 : (Jvm.Cond.code ({ cls := "java/util/ArrayList", name := "size", desc := "()I" } : Jvm.MethodName) prog_61_method_8_code (1 : Nat) (Option.some Jvm.ClassFile.FieldType.int)) ∈ lw_all := lw_g (lw_at lw_m5 236 rfl) rfl
theorem q1314 : (Jvm.Cond.methodLink "GangColumns" (49 : Nat) ({ cls := "java/util/ArrayList", name := "get", desc := "(I)Ljava/lang/Object;" } : Jvm.MethodName)) ∈ lw_all := lw_g (lw_at lw_m5 237 rfl) rfl
theorem q1315 : (Jvm.Cond.instanceMethod ({ cls := "java/util/ArrayList", name := "get", desc := "(I)Ljava/lang/Object;" } : Jvm.MethodName)) ∈ lw_all := lw_g (lw_at lw_m5 238 rfl) rfl
theorem q1316 : (Jvm.Cond.selects "java/util/ArrayList" ({ cls := "java/util/ArrayList", name := "get", desc := "(I)Ljava/lang/Object;" } : Jvm.MethodName) ({ cls := "java/util/ArrayList", name := "get", desc := "(I)Ljava/lang/Object;" } : Jvm.MethodName)) ∈ lw_all := lw_g (lw_at lw_m5 239 rfl) rfl
theorem q1317 : (Jvm.Cond.code ({ cls := "java/util/ArrayList", name := "get", desc := "(I)Ljava/lang/Object;" } : Jvm.MethodName) prog_61_method_20_code (2 : Nat) (Option.some (Jvm.ClassFile.FieldType.object "java/lang/Object"))) ∈ lw_all := lw_g (lw_at lw_m6 0 rfl) rfl
theorem q1318 : (Jvm.Cond.methodLink "java/util/ArrayList" (118 : Nat) ({ cls := "java/util/Objects", name := "checkIndex", desc := "(II)I" } : Jvm.MethodName)) ∈ lw_all := lw_g (lw_at lw_m6 1 rfl) rfl
theorem q1319 : (Jvm.Cond.static ({ cls := "java/util/Objects", name := "checkIndex", desc := "(II)I" } : Jvm.MethodName)) ∈ lw_all := lw_g (lw_at lw_m6 2 rfl) rfl
theorem q1320 : (Jvm.Cond.code ({ cls := "java/util/Objects", name := "checkIndex", desc := "(II)I" } : Jvm.MethodName) prog_72_method_17_code (2 : Nat) (Option.some Jvm.ClassFile.FieldType.int)) ∈ lw_all := lw_g (lw_at lw_m6 3 rfl) rfl
theorem q1321 : (Jvm.Cond.methodLink "java/util/Objects" (105 : Nat) ({ cls := "jdk/internal/util/Preconditions", name := "checkIndex", desc := "(IILjava/util/function/BiFunction;)I" } : Jvm.MethodName)) ∈ lw_all := lw_g (lw_at lw_m6 4 rfl) rfl
theorem q1322 : (Jvm.Cond.static ({ cls := "jdk/internal/util/Preconditions", name := "checkIndex", desc := "(IILjava/util/function/BiFunction;)I" } : Jvm.MethodName)) ∈ lw_all := lw_g (lw_at lw_m6 5 rfl) rfl
theorem q1323 : (Jvm.Cond.code ({ cls := "jdk/internal/util/Preconditions", name := "checkIndex", desc := "(IILjava/util/function/BiFunction;)I" } : Jvm.MethodName) prog_97_method_11_code (3 : Nat) (Option.some Jvm.ClassFile.FieldType.int)) ∈ lw_all := lw_g (lw_at lw_m6 6 rfl) rfl
theorem q1324 : (Jvm.Cond.methodLink "java/util/ArrayList" (123 : Nat) ({ cls := "java/util/ArrayList", name := "elementData", desc := "(I)Ljava/lang/Object;" } : Jvm.MethodName)) ∈ lw_all := lw_g (lw_at lw_m6 7 rfl) rfl
theorem q1325 : (Jvm.Cond.instanceMethod ({ cls := "java/util/ArrayList", name := "elementData", desc := "(I)Ljava/lang/Object;" } : Jvm.MethodName)) ∈ lw_all := lw_g (lw_at lw_m6 8 rfl) rfl
theorem q1326 : (Jvm.Cond.selects "java/util/ArrayList" ({ cls := "java/util/ArrayList", name := "elementData", desc := "(I)Ljava/lang/Object;" } : Jvm.MethodName) ({ cls := "java/util/ArrayList", name := "elementData", desc := "(I)Ljava/lang/Object;" } : Jvm.MethodName)) ∈ lw_all := lw_g (lw_at lw_m6 9 rfl) rfl
theorem q1327 : (Jvm.Cond.code ({ cls := "java/util/ArrayList", name := "elementData", desc := "(I)Ljava/lang/Object;" } : Jvm.MethodName) prog_61_method_18_code (2 : Nat) (Option.some (Jvm.ClassFile.FieldType.object "java/lang/Object"))) ∈ lw_all := lw_g (lw_at lw_m6 10 rfl) rfl
theorem q1328 : (Jvm.Cond.classLink "GangColumns" (53 : Nat) "GangColumns$Job") ∈ lw_all := lw_g (lw_at lw_m6 11 rfl) rfl
theorem q1329 : (Jvm.Cond.classLink "GangColumns" (139 : Nat) "GangColumns$ArmsReader") ∈ lw_all := lw_g (lw_at lw_m6 12 rfl) rfl
theorem q1330 : (Jvm.Cond.instantiable "GangColumns$ArmsReader" (3 : Nat)) ∈ lw_all := lw_g (lw_at lw_m6 13 rfl) rfl
theorem q1331 : (Jvm.Cond.methodLinkNest "GangColumns" (141 : Nat) ({ cls := "GangColumns$ArmsReader", name := "<init>", desc := "(LGangColumns;)V" } : Jvm.MethodName) "GangColumns") ∈ lw_tbl := lw_at lw_m6 14 rfl
theorem q1332 : (Jvm.Cond.instanceMethod ({ cls := "GangColumns$ArmsReader", name := "<init>", desc := "(LGangColumns;)V" } : Jvm.MethodName)) ∈ lw_all := lw_g (lw_at lw_m6 15 rfl) rfl
theorem q1333 : (Jvm.Cond.code ({ cls := "GangColumns$ArmsReader", name := "<init>", desc := "(LGangColumns;)V" } : Jvm.MethodName) prog_5_method_1_code (2 : Nat) (Option.none : Option Jvm.ClassFile.FieldType)) ∈ lw_all := lw_g (lw_at lw_m6 16 rfl) rfl
theorem q1334 : (Jvm.Cond.methodLink "GangColumns$ArmsReader" (9 : Nat) ({ cls := "java/lang/Object", name := "<init>", desc := "()V" } : Jvm.MethodName)) ∈ lw_all := lw_g (lw_at lw_m6 17 rfl) rfl
theorem q1335 : (Jvm.Cond.classLink "GangColumns$ArmsReader" (15 : Nat) "java/util/ArrayList") ∈ lw_all := lw_g (lw_at lw_m6 18 rfl) rfl
theorem q1336 : (Jvm.Cond.methodLink "GangColumns$ArmsReader" (17 : Nat) ({ cls := "java/util/ArrayList", name := "<init>", desc := "()V" } : Jvm.MethodName)) ∈ lw_all := lw_g (lw_at lw_m6 19 rfl) rfl
theorem q1337 : (Jvm.Cond.fieldLink "GangColumns$ArmsReader" (18 : Nat) "GangColumns$ArmsReader" "arms" "Ljava/util/ArrayList;") ∈ lw_all := lw_g (lw_at lw_m6 20 rfl) rfl
theorem q1338 : (Jvm.Cond.fieldLink "GangColumns$ArmsReader" (22 : Nat) "GangColumns$ArmsReader" "at" "I") ∈ lw_all := lw_g (lw_at lw_m6 21 rfl) rfl
theorem q1339 : (Jvm.Cond.fieldLink "GangColumns$ArmsReader" (3 : Nat) "GangColumns$ArmsReader" "this$0" "LGangColumns;") ∈ lw_all := lw_g (lw_at lw_m6 22 rfl) rfl
theorem q1340 : (Jvm.Cond.laysFinal "GangColumns$ArmsReader" "GangColumns$ArmsReader" "arms" "Ljava/util/ArrayList;") ∈ lw_all := lw_g (lw_at lw_m6 23 rfl) rfl
theorem q1341 : (Jvm.Cond.soleField "GangColumns$ArmsReader" "arms") ∈ lw_all := lw_g (lw_at lw_m6 24 rfl) rfl
theorem q1342 : (Jvm.Cond.lays "GangColumns$ArmsReader" "GangColumns$ArmsReader" "at" "I") ∈ lw_all := lw_g (lw_at lw_m6 25 rfl) rfl
theorem q1343 : (Jvm.Cond.soleField "GangColumns$ArmsReader" "at") ∈ lw_all := lw_g (lw_at lw_m6 26 rfl) rfl
theorem q1344 : (Jvm.Cond.laysFinal "GangColumns$ArmsReader" "GangColumns$ArmsReader" "this$0" "LGangColumns;") ∈ lw_all := lw_g (lw_at lw_m6 27 rfl) rfl
theorem q1345 : (Jvm.Cond.soleField "GangColumns$ArmsReader" "this$0") ∈ lw_all := lw_g (lw_at lw_m6 28 rfl) rfl
theorem q1346 : (Jvm.Cond.superclass "GangColumns$ArmsReader" "java/lang/Object") ∈ lw_all := lw_g (lw_at lw_m6 29 rfl) rfl
theorem q1347 : (Jvm.Cond.methodLink "GangColumns" (144 : Nat) ({ cls := "GangColumns$ArmsReader", name := "read", desc := "()I" } : Jvm.MethodName)) ∈ lw_all := lw_g (lw_at lw_m6 30 rfl) rfl
theorem q1348 : (Jvm.Cond.instanceMethod ({ cls := "GangColumns$ArmsReader", name := "read", desc := "()I" } : Jvm.MethodName)) ∈ lw_all := lw_g (lw_at lw_m6 31 rfl) rfl
theorem q1349 : (Jvm.Cond.selects "GangColumns$ArmsReader" ({ cls := "GangColumns$ArmsReader", name := "read", desc := "()I" } : Jvm.MethodName) ({ cls := "GangColumns$ArmsReader", name := "read", desc := "()I" } : Jvm.MethodName)) ∈ lw_all := lw_g (lw_at lw_m6 32 rfl) rfl
theorem q1350 : (Jvm.Cond.codeWith ({ cls := "GangColumns$ArmsReader", name := "read", desc := "()I" } : Jvm.MethodName) prog_5_method_5_code (4 : Nat) (Option.some Jvm.ClassFile.FieldType.int) [((0 : Nat), (6 : Nat), (16 : Nat), (45 : Nat)), ((0 : Nat), (6 : Nat), (35 : Nat), (0 : Nat)), ((16 : Nat), (25 : Nat), (35 : Nat), (0 : Nat))]) ∈ lw_all := lw_g (lw_at lw_m6 33 rfl) rfl
theorem q1351 : (Jvm.Cond.classLink "GangColumns$ArmsReader" (45 : Nat) "GangColumns$Fault") ∈ lw_all := lw_g (lw_at lw_m6 34 rfl) rfl
theorem q1352 : (Jvm.Cond.methodLink "GangColumns$ArmsReader" (66 : Nat) ({ cls := "GangColumns$ArmsReader", name := "whole", desc := "()V" } : Jvm.MethodName)) ∈ lw_all := lw_g (lw_at lw_m6 35 rfl) rfl
theorem q1353 : (Jvm.Cond.privateMethod ({ cls := "GangColumns$ArmsReader", name := "whole", desc := "()V" } : Jvm.MethodName)) ∈ lw_tbl := lw_at lw_m6 36 rfl
theorem q1354 : (Jvm.Cond.instanceMethod ({ cls := "GangColumns$ArmsReader", name := "whole", desc := "()V" } : Jvm.MethodName)) ∈ lw_all := lw_g (lw_at lw_m6 37 rfl) rfl
theorem q1355 : (Jvm.Cond.code ({ cls := "GangColumns$ArmsReader", name := "whole", desc := "()V" } : Jvm.MethodName) prog_5_method_4_code (3 : Nat) (Option.none : Option Jvm.ClassFile.FieldType)) ∈ lw_all := lw_g (lw_at lw_m6 38 rfl) rfl
theorem q1356 : (Jvm.Cond.methodLink "GangColumns$ArmsReader" (50 : Nat) ({ cls := "GangColumns$ArmsReader", name := "number", desc := "(I)I" } : Jvm.MethodName)) ∈ lw_all := lw_g (lw_at lw_m6 39 rfl) rfl
theorem q1357 : (Jvm.Cond.privateMethod ({ cls := "GangColumns$ArmsReader", name := "number", desc := "(I)I" } : Jvm.MethodName)) ∈ lw_tbl := lw_at lw_m6 40 rfl
theorem q1358 : (Jvm.Cond.instanceMethod ({ cls := "GangColumns$ArmsReader", name := "number", desc := "(I)I" } : Jvm.MethodName)) ∈ lw_all := lw_g (lw_at lw_m6 41 rfl) rfl
theorem q1359 : (Jvm.Cond.code ({ cls := "GangColumns$ArmsReader", name := "number", desc := "(I)I" } : Jvm.MethodName) prog_5_method_3_code (4 : Nat) (Option.some Jvm.ClassFile.FieldType.int)) ∈ lw_all := lw_g (lw_at lw_m6 42 rfl) rfl
theorem q1360 : (Jvm.Cond.methodLink "GangColumns$ArmsReader" (33 : Nat) ({ cls := "GangColumns$ArmsReader", name := "peek", desc := "()I" } : Jvm.MethodName)) ∈ lw_all := lw_g (lw_at lw_m6 43 rfl) rfl
theorem q1361 : (Jvm.Cond.privateMethod ({ cls := "GangColumns$ArmsReader", name := "peek", desc := "()I" } : Jvm.MethodName)) ∈ lw_tbl := lw_at lw_m6 44 rfl
theorem q1362 : (Jvm.Cond.instanceMethod ({ cls := "GangColumns$ArmsReader", name := "peek", desc := "()I" } : Jvm.MethodName)) ∈ lw_all := lw_g (lw_at lw_m6 45 rfl) rfl
theorem q1363 : (Jvm.Cond.code ({ cls := "GangColumns$ArmsReader", name := "peek", desc := "()I" } : Jvm.MethodName) prog_5_method_2_code (1 : Nat) (Option.some Jvm.ClassFile.FieldType.int)) ∈ lw_all := lw_g (lw_at lw_m6 46 rfl) rfl
theorem q1364 : (Jvm.Cond.constantLong "GangColumns$ArmsReader" (37 : Nat) (48 : Int64)) ∈ lw_all := lw_g (lw_at lw_m6 47 rfl) rfl
theorem q1365 : (Jvm.Cond.constantLong "GangColumns$ArmsReader" (39 : Nat) (57 : Int64)) ∈ lw_all := lw_g (lw_at lw_m6 48 rfl) rfl
theorem q1366 : (Jvm.Cond.methodLinkNest "GangColumns$ArmsReader" (41 : Nat) ({ cls := "GangColumns", name := "within", desc := "(JJJ)Z" } : Jvm.MethodName) "GangColumns") ∈ lw_tbl := lw_at lw_m6 49 rfl
theorem q1367 : (Jvm.Cond.instantiable "GangColumns$Fault" (7 : Nat)) ∈ lw_all := lw_g (lw_at lw_m6 50 rfl) rfl
theorem q1368 : (Jvm.Cond.castable "GangColumns$Fault" "GangColumns$Fault") ∈ lw_tbl := lw_at lw_m6 51 rfl
theorem q1369 : (Jvm.Cond.declares ({ cls := "java/lang/Exception", name := "<init>", desc := "()V" } : Jvm.MethodName)) ∈ lw_tbl := lw_at lw_m6 52 rfl
theorem q1370 : (Jvm.Cond.declares ({ cls := "java/lang/Exception", name := "<init>", desc := "(Ljava/lang/String;)V" } : Jvm.MethodName)) ∈ lw_tbl := lw_at lw_m6 53 rfl
theorem q1371 : (Jvm.Cond.declares ({ cls := "java/lang/Throwable", name := "<init>", desc := "()V" } : Jvm.MethodName)) ∈ lw_tbl := lw_at lw_m6 54 rfl
theorem q1372 : (Jvm.Cond.declares ({ cls := "java/lang/Throwable", name := "<init>", desc := "(Ljava/lang/String;)V" } : Jvm.MethodName)) ∈ lw_tbl := lw_at lw_m6 55 rfl
theorem q1373 : (Jvm.Cond.selects "GangColumns$Fault" ({ cls := "java/lang/Throwable", name := "fillInStackTrace", desc := "(I)Ljava/lang/Throwable;" } : Jvm.MethodName) ({ cls := "java/lang/Throwable", name := "fillInStackTrace", desc := "(I)Ljava/lang/Throwable;" } : Jvm.MethodName)) ∈ lw_all := lw_g (lw_at lw_m6 56 rfl) rfl
theorem q1374 : (Jvm.Cond.selects "GangColumns$Fault" ({ cls := "java/lang/Throwable", name := "fillInStackTrace", desc := "()Ljava/lang/Throwable;" } : Jvm.MethodName) ({ cls := "java/lang/Throwable", name := "fillInStackTrace", desc := "()Ljava/lang/Throwable;" } : Jvm.MethodName)) ∈ lw_all := lw_g (lw_at lw_m6 57 rfl) rfl
theorem q1375 : (Jvm.Cond.lays "GangColumns$Fault" "java/lang/Throwable" "cause" "Ljava/lang/Throwable;") ∈ lw_all := lw_g (lw_at lw_m6 58 rfl) rfl
theorem q1376 : (Jvm.Cond.lays "java/lang/Throwable" "java/lang/Throwable" "cause" "Ljava/lang/Throwable;") ∈ lw_all := lw_g (lw_at lw_m6 59 rfl) rfl
theorem q1377 : (Jvm.Cond.lays "GangColumns$Fault" "java/lang/Throwable" "stackTrace" "[Ljava/lang/StackTraceElement;") ∈ lw_all := lw_g (lw_at lw_m6 60 rfl) rfl
theorem q1378 : (Jvm.Cond.lays "java/lang/Throwable" "java/lang/Throwable" "stackTrace" "[Ljava/lang/StackTraceElement;") ∈ lw_all := lw_g (lw_at lw_m6 61 rfl) rfl
theorem q1379 : (Jvm.Cond.lays "GangColumns$Fault" "java/lang/Throwable" "suppressedExceptions" "Ljava/util/List;") ∈ lw_all := lw_g (lw_at lw_m6 62 rfl) rfl
theorem q1380 : (Jvm.Cond.lays "java/lang/Throwable" "java/lang/Throwable" "suppressedExceptions" "Ljava/util/List;") ∈ lw_all := lw_g (lw_at lw_m6 63 rfl) rfl
theorem q1381 : (Jvm.Cond.lays "GangColumns$Fault" "java/lang/Throwable" "detailMessage" "Ljava/lang/String;") ∈ lw_all := lw_g (lw_at lw_m6 64 rfl) rfl
theorem q1382 : (Jvm.Cond.lays "java/lang/Throwable" "java/lang/Throwable" "detailMessage" "Ljava/lang/String;") ∈ lw_all := lw_g (lw_at lw_m6 65 rfl) rfl
theorem q1383 : (Jvm.Cond.lays "GangColumns$Fault" "java/lang/Throwable" "backtrace" "Ljava/lang/Object;") ∈ lw_all := lw_g (lw_at lw_m6 66 rfl) rfl
theorem q1384 : (Jvm.Cond.lays "java/lang/Throwable" "java/lang/Throwable" "backtrace" "Ljava/lang/Object;") ∈ lw_all := lw_g (lw_at lw_m6 67 rfl) rfl
theorem q1385 : (Jvm.Cond.fieldLink "java/lang/Throwable" (198 : Nat) "java/lang/Throwable" "backtrace" "Ljava/lang/Object;") ∈ lw_all := lw_g (lw_at lw_m6 68 rfl) rfl
theorem q1386 : (Jvm.Cond.superclass "java/lang/Throwable" "java/lang/Object") ∈ lw_all := lw_g (lw_at lw_m6 69 rfl) rfl
theorem q1387 : (Jvm.Cond.instanceMethod ({ cls := "java/lang/Throwable", name := "<init>", desc := "()V" } : Jvm.MethodName)) ∈ lw_all := lw_g (lw_at lw_m6 70 rfl) rfl
theorem q1388 : (Jvm.Cond.code ({ cls := "java/lang/Throwable", name := "<init>", desc := "()V" } : Jvm.MethodName) prog_52_method_1_code (1 : Nat) (Option.none : Option Jvm.ClassFile.FieldType)) ∈ lw_all := lw_g (lw_at lw_m6 71 rfl) rfl
theorem q1389 : (Jvm.Cond.methodLink "java/lang/Throwable" (1 : Nat) ({ cls := "java/lang/Object", name := "<init>", desc := "()V" } : Jvm.MethodName)) ∈ lw_all := lw_g (lw_at lw_m6 72 rfl) rfl
theorem q1390 : (Jvm.Cond.fieldLink "java/lang/Throwable" (13 : Nat) "java/lang/Throwable" "UNASSIGNED_STACK" "[Ljava/lang/StackTraceElement;") ∈ lw_all := lw_g (lw_at lw_m6 73 rfl) rfl
theorem q1391 : (Jvm.Cond.laysStatic "java/lang/Throwable" "UNASSIGNED_STACK" "[Ljava/lang/StackTraceElement;") ∈ lw_tbl := lw_at lw_m6 74 rfl
theorem q1392 : (Jvm.Cond.fieldLink "java/lang/Throwable" (20 : Nat) "java/lang/Throwable" "SUPPRESSED_SENTINEL" "Ljava/util/List;") ∈ lw_all := lw_g (lw_at lw_m6 75 rfl) rfl
theorem q1393 : (Jvm.Cond.laysStatic "java/lang/Throwable" "SUPPRESSED_SENTINEL" "Ljava/util/List;") ∈ lw_tbl := lw_at lw_m6 76 rfl
theorem q1394 : (Jvm.Cond.methodLink "java/lang/Throwable" (27 : Nat) ({ cls := "java/lang/Throwable", name := "fillInStackTrace", desc := "()Ljava/lang/Throwable;" } : Jvm.MethodName)) ∈ lw_all := lw_g (lw_at lw_m6 77 rfl) rfl
theorem q1395 : (Jvm.Cond.instanceMethod ({ cls := "java/lang/Throwable", name := "fillInStackTrace", desc := "()Ljava/lang/Throwable;" } : Jvm.MethodName)) ∈ lw_all := lw_g (lw_at lw_m6 78 rfl) rfl
theorem q1396 : (Jvm.Cond.sameMethod "java/lang/Throwable" "java/lang/Throwable" "fillInStackTrace" "()Ljava/lang/Throwable;") ∈ lw_all := lw_g (lw_at lw_m6 79 rfl) rfl
theorem q1397 : (Jvm.Cond.codeSync ({ cls := "java/lang/Throwable", name := "fillInStackTrace", desc := "()Ljava/lang/Throwable;" } : Jvm.MethodName) prog_52_method_18_code (1 : Nat) (Option.some (Jvm.ClassFile.FieldType.object "java/lang/Throwable"))) ∈ lw_all := lw_g (lw_at lw_m6 80 rfl) rfl
theorem q1398 : (Jvm.Cond.methodLink "java/lang/Throwable" (202 : Nat) ({ cls := "java/lang/Throwable", name := "fillInStackTrace", desc := "(I)Ljava/lang/Throwable;" } : Jvm.MethodName)) ∈ lw_all := lw_g (lw_at lw_m6 81 rfl) rfl
theorem q1399 : (Jvm.Cond.privateMethod ({ cls := "java/lang/Throwable", name := "fillInStackTrace", desc := "(I)Ljava/lang/Throwable;" } : Jvm.MethodName)) ∈ lw_tbl := lw_at lw_m6 82 rfl
theorem q1400 : (Jvm.Cond.instanceMethod ({ cls := "java/lang/Throwable", name := "fillInStackTrace", desc := "(I)Ljava/lang/Throwable;" } : Jvm.MethodName)) ∈ lw_all := lw_g (lw_at lw_m6 83 rfl) rfl
theorem q1401 : (Jvm.Cond.instantiable "java/lang/Throwable" (6 : Nat)) ∈ lw_all := lw_g (lw_at lw_m6 84 rfl) rfl
theorem q1402 : (Jvm.Cond.native ({ cls := "java/lang/Throwable", name := "fillInStackTrace", desc := "(I)Ljava/lang/Throwable;" } : Jvm.MethodName)) ∈ lw_all := lw_g (lw_at lw_m6 85 rfl) rfl
theorem q1403 : (Jvm.Cond.methodLink "GangColumns$ArmsReader" (47 : Nat) ({ cls := "GangColumns$Fault", name := "<init>", desc := "(I)V" } : Jvm.MethodName)) ∈ lw_all := lw_g (lw_at lw_m6 86 rfl) rfl
theorem q1404 : (Jvm.Cond.instanceMethod ({ cls := "GangColumns$Fault", name := "<init>", desc := "(I)V" } : Jvm.MethodName)) ∈ lw_all := lw_g (lw_at lw_m6 87 rfl) rfl
theorem q1405 : (Jvm.Cond.code ({ cls := "GangColumns$Fault", name := "<init>", desc := "(I)V" } : Jvm.MethodName) prog_12_method_1_code (2 : Nat) (Option.none : Option Jvm.ClassFile.FieldType)) ∈ lw_all := lw_g (lw_at lw_m6 88 rfl) rfl
theorem q1406 : (Jvm.Cond.methodLink "GangColumns$Fault" (1 : Nat) ({ cls := "java/lang/Exception", name := "<init>", desc := "(Ljava/lang/String;Ljava/lang/Throwable;ZZ)V" } : Jvm.MethodName)) ∈ lw_all := lw_g (lw_at lw_m6 89 rfl) rfl
theorem q1407 : (Jvm.Cond.instanceMethod ({ cls := "java/lang/Exception", name := "<init>", desc := "(Ljava/lang/String;Ljava/lang/Throwable;ZZ)V" } : Jvm.MethodName)) ∈ lw_all := lw_g (lw_at lw_m6 90 rfl) rfl
theorem q1408 : (Jvm.Cond.code ({ cls := "java/lang/Exception", name := "<init>", desc := "(Ljava/lang/String;Ljava/lang/Throwable;ZZ)V" } : Jvm.MethodName) prog_40_method_5_code (5 : Nat) (Option.none : Option Jvm.ClassFile.FieldType)) ∈ lw_all := lw_g (lw_at lw_m6 91 rfl) rfl
theorem q1409 : (Jvm.Cond.methodLink "java/lang/Exception" (16 : Nat) ({ cls := "java/lang/Throwable", name := "<init>", desc := "(Ljava/lang/String;Ljava/lang/Throwable;ZZ)V" } : Jvm.MethodName)) ∈ lw_all := lw_g (lw_at lw_m6 92 rfl) rfl
theorem q1410 : (Jvm.Cond.instanceMethod ({ cls := "java/lang/Throwable", name := "<init>", desc := "(Ljava/lang/String;Ljava/lang/Throwable;ZZ)V" } : Jvm.MethodName)) ∈ lw_all := lw_g (lw_at lw_m6 93 rfl) rfl
theorem q1411 : (Jvm.Cond.code ({ cls := "java/lang/Throwable", name := "<init>", desc := "(Ljava/lang/String;Ljava/lang/Throwable;ZZ)V" } : Jvm.MethodName) prog_52_method_5_code (5 : Nat) (Option.none : Option Jvm.ClassFile.FieldType)) ∈ lw_all := lw_g (lw_at lw_m6 94 rfl) rfl
theorem q1412 : (Jvm.Cond.fieldLink "GangColumns$Fault" (7 : Nat) "GangColumns$Fault" "place" "I") ∈ lw_all := lw_g (lw_at lw_m6 95 rfl) rfl
theorem q1413 : (Jvm.Cond.fieldLinkNest "GangColumns$ArmsReader" (69 : Nat) "GangColumns$Fault" "place" "I" "GangColumns") ∈ lw_tbl := lw_at lw_m6 96 rfl
theorem q1414 : (Jvm.Cond.fieldLink "java/lang/Throwable" (198 : Nat) "java/lang/Throwable" "backtrace" "Ljava/lang/Object;") ∈ lw_all := lw_g (lw_at lw_m6 97 rfl) rfl
theorem q1415 : (Jvm.Cond.fieldLink "java/lang/Throwable" (31 : Nat) "java/lang/Throwable" "detailMessage" "Ljava/lang/String;") ∈ lw_all := lw_g (lw_at lw_m6 98 rfl) rfl
theorem q1416 : (Jvm.Cond.fieldLink "java/lang/Throwable" (7 : Nat) "java/lang/Throwable" "cause" "Ljava/lang/Throwable;") ∈ lw_all := lw_g (lw_at lw_m6 99 rfl) rfl
theorem q1417 : (Jvm.Cond.fieldLink "java/lang/Throwable" (17 : Nat) "java/lang/Throwable" "stackTrace" "[Ljava/lang/StackTraceElement;") ∈ lw_all := lw_g (lw_at lw_m6 100 rfl) rfl
theorem q1418 : (Jvm.Cond.fieldLink "java/lang/Throwable" (24 : Nat) "java/lang/Throwable" "suppressedExceptions" "Ljava/util/List;") ∈ lw_all := lw_g (lw_at lw_m6 101 rfl) rfl
theorem q1419 : (Jvm.Cond.laysFinal "GangColumns$Fault" "GangColumns$Fault" "place" "I") ∈ lw_all := lw_g (lw_at lw_m6 102 rfl) rfl
theorem q1420 : (Jvm.Cond.soleField "GangColumns$Fault" "place") ∈ lw_all := lw_g (lw_at lw_m6 103 rfl) rfl
theorem q1421 : (Jvm.Cond.soleField "java/lang/Throwable" "backtrace") ∈ lw_all := lw_g (lw_at lw_m6 104 rfl) rfl
theorem q1422 : (Jvm.Cond.soleField "java/lang/Throwable" "detailMessage") ∈ lw_all := lw_g (lw_at lw_m6 105 rfl) rfl
theorem q1423 : (Jvm.Cond.soleField "java/lang/Throwable" "cause") ∈ lw_all := lw_g (lw_at lw_m6 106 rfl) rfl
theorem q1424 : (Jvm.Cond.soleField "java/lang/Throwable" "stackTrace") ∈ lw_all := lw_g (lw_at lw_m6 107 rfl) rfl
theorem q1425 : (Jvm.Cond.lays "GangColumns$Fault" "java/lang/Throwable" "depth" "I") ∈ lw_all := lw_g (lw_at lw_m6 108 rfl) rfl
theorem q1426 : (Jvm.Cond.soleField "java/lang/Throwable" "depth") ∈ lw_all := lw_g (lw_at lw_m6 109 rfl) rfl
theorem q1427 : (Jvm.Cond.soleField "java/lang/Throwable" "suppressedExceptions") ∈ lw_all := lw_g (lw_at lw_m6 110 rfl) rfl
theorem q1428 : (Jvm.Cond.superclass "GangColumns$Fault" "java/lang/Exception") ∈ lw_all := lw_g (lw_at lw_m6 111 rfl) rfl
theorem q1429 : (Jvm.Cond.classLink "GangColumns$ArmsReader" (54 : Nat) "GangColumns$Arm") ∈ lw_all := lw_g (lw_at lw_m6 112 rfl) rfl
theorem q1430 : (Jvm.Cond.instantiable "GangColumns$Arm" (6 : Nat)) ∈ lw_all := lw_g (lw_at lw_m6 113 rfl) rfl
theorem q1431 : (Jvm.Cond.methodLink "GangColumns$ArmsReader" (56 : Nat) ({ cls := "java/util/ArrayList", name := "size", desc := "()I" } : Jvm.MethodName)) ∈ lw_all := lw_g (lw_at lw_m6 114 rfl) rfl
theorem q1432 : (Jvm.Cond.methodLink "GangColumns$ArmsReader" (59 : Nat) ({ cls := "GangColumns$Arm", name := "<init>", desc := "(III)V" } : Jvm.MethodName)) ∈ lw_all := lw_g (lw_at lw_m6 115 rfl) rfl
theorem q1433 : (Jvm.Cond.instanceMethod ({ cls := "GangColumns$Arm", name := "<init>", desc := "(III)V" } : Jvm.MethodName)) ∈ lw_all := lw_g (lw_at lw_m6 116 rfl) rfl
theorem q1434 : (Jvm.Cond.code ({ cls := "GangColumns$Arm", name := "<init>", desc := "(III)V" } : Jvm.MethodName) prog_4_method_1_code (4 : Nat) (Option.none : Option Jvm.ClassFile.FieldType)) ∈ lw_all := lw_g (lw_at lw_m6 117 rfl) rfl
theorem q1435 : (Jvm.Cond.methodLink "GangColumns$Arm" (3 : Nat) ({ cls := "java/lang/Object", name := "<init>", desc := "()V" } : Jvm.MethodName)) ∈ lw_all := lw_g (lw_at lw_m6 118 rfl) rfl
theorem q1436 : (Jvm.Cond.fieldLink "GangColumns$Arm" (18 : Nat) "GangColumns$Arm" "number" "I") ∈ lw_all := lw_g (lw_at lw_m6 119 rfl) rfl
theorem q1437 : (Jvm.Cond.fieldLinkNest "GangColumns$ByWidth" (13 : Nat) "GangColumns$Arm" "number" "I" "GangColumns") ∈ lw_tbl := lw_at lw_m6 120 rfl
theorem q1438 : (Jvm.Cond.fieldLinkNest "GangColumns$WidestGoing" (28 : Nat) "GangColumns$Arm" "number" "I" "GangColumns") ∈ lw_tbl := lw_at lw_m6 121 rfl
theorem q1439 : (Jvm.Cond.fieldLinkNest "GangColumns$ByEnd" (28 : Nat) "GangColumns$Arm" "number" "I" "GangColumns") ∈ lw_tbl := lw_at lw_m6 122 rfl
theorem q1440 : (Jvm.Cond.fieldLinkNest "GangColumns$Cluster" (186 : Nat) "GangColumns$Arm" "number" "I" "GangColumns") ∈ lw_tbl := lw_at lw_m6 123 rfl
theorem q1441 : (Jvm.Cond.fieldLink "GangColumns$Arm" (21 : Nat) "GangColumns$Arm" "wide" "I") ∈ lw_all := lw_g (lw_at lw_m6 124 rfl) rfl
theorem q1442 : (Jvm.Cond.fieldLinkNest "GangColumns$ByWidth" (7 : Nat) "GangColumns$Arm" "wide" "I" "GangColumns") ∈ lw_tbl := lw_at lw_m6 125 rfl
theorem q1443 : (Jvm.Cond.fieldLinkNest "GangColumns$WidestGoing" (13 : Nat) "GangColumns$Arm" "wide" "I" "GangColumns") ∈ lw_tbl := lw_at lw_m6 126 rfl
theorem q1444 : (Jvm.Cond.fieldLinkNest "GangColumns$Moves" (84 : Nat) "GangColumns$Arm" "wide" "I" "GangColumns") ∈ lw_tbl := lw_at lw_m6 127 rfl
theorem q1445 : (Jvm.Cond.fieldLinkNest "GangColumns$Job" (84 : Nat) "GangColumns$Arm" "wide" "I" "GangColumns") ∈ lw_tbl := lw_at lw_m6 128 rfl
theorem q1446 : (Jvm.Cond.fieldLinkNest "GangColumns$Cluster" (248 : Nat) "GangColumns$Arm" "wide" "I" "GangColumns") ∈ lw_tbl := lw_at lw_m6 129 rfl
theorem q1447 : (Jvm.Cond.fieldLinkNest "GangColumns" (215 : Nat) "GangColumns$Arm" "wide" "I" "GangColumns") ∈ lw_tbl := lw_at lw_m6 130 rfl
theorem q1448 : (Jvm.Cond.fieldLink "GangColumns$Arm" (24 : Nat) "GangColumns$Arm" "asks" "I") ∈ lw_all := lw_g (lw_at lw_m6 131 rfl) rfl
theorem q1449 : (Jvm.Cond.fieldLinkNest "GangColumns$Cluster" (213 : Nat) "GangColumns$Arm" "asks" "I" "GangColumns") ∈ lw_tbl := lw_at lw_m6 132 rfl
theorem q1450 : (Jvm.Cond.fieldLinkNest "GangColumns$Moves" (130 : Nat) "GangColumns$Arm" "asks" "I" "GangColumns") ∈ lw_tbl := lw_at lw_m6 133 rfl
theorem q1451 : (Jvm.Cond.fieldLinkNest "GangColumns$Job" (108 : Nat) "GangColumns$Arm" "asks" "I" "GangColumns") ∈ lw_tbl := lw_at lw_m6 134 rfl
theorem q1452 : (Jvm.Cond.fieldLinkNest "GangColumns$Column" (77 : Nat) "GangColumns$Arm" "asks" "I" "GangColumns") ∈ lw_tbl := lw_at lw_m6 135 rfl
theorem q1453 : (Jvm.Cond.fieldLinkNest "GangColumns" (220 : Nat) "GangColumns$Arm" "asks" "I" "GangColumns") ∈ lw_tbl := lw_at lw_m6 136 rfl
theorem q1454 : (Jvm.Cond.fieldLink "GangColumns$Arm" (9 : Nat) "GangColumns$Arm" "column" "I") ∈ lw_all := lw_g (lw_at lw_m6 137 rfl) rfl
theorem q1455 : (Jvm.Cond.fieldLinkNest "GangColumns$Moves" (79 : Nat) "GangColumns$Arm" "column" "I" "GangColumns") ∈ lw_tbl := lw_at lw_m6 138 rfl
theorem q1456 : (Jvm.Cond.fieldLinkNest "GangColumns" (229 : Nat) "GangColumns$Arm" "column" "I" "GangColumns") ∈ lw_tbl := lw_at lw_m6 139 rfl
theorem q1457 : (Jvm.Cond.fieldLinkNest "GangColumns$Cluster" (332 : Nat) "GangColumns$Arm" "column" "I" "GangColumns") ∈ lw_tbl := lw_at lw_m6 140 rfl
theorem q1458 : (Jvm.Cond.fieldLinkNest "GangColumns$Cluster" (210 : Nat) "GangColumns$Arm" "start" "I" "GangColumns") ∈ lw_tbl := lw_at lw_m6 141 rfl
theorem q1459 : (Jvm.Cond.fieldLink "GangColumns$Arm" (36 : Nat) "GangColumns$Arm" "start" "I") ∈ lw_all := lw_g (lw_at lw_m6 142 rfl) rfl
theorem q1460 : (Jvm.Cond.fieldLinkNest "GangColumns$Moves" (150 : Nat) "GangColumns$Arm" "start" "I" "GangColumns") ∈ lw_tbl := lw_at lw_m6 143 rfl
theorem q1461 : (Jvm.Cond.fieldLink "GangColumns$Arm" (15 : Nat) "GangColumns$Arm" "end" "I") ∈ lw_all := lw_g (lw_at lw_m6 144 rfl) rfl
theorem q1462 : (Jvm.Cond.fieldLinkNest "GangColumns$ByEnd" (13 : Nat) "GangColumns$Arm" "end" "I" "GangColumns") ∈ lw_tbl := lw_at lw_m6 145 rfl
theorem q1463 : (Jvm.Cond.fieldLinkNest "GangColumns$Cluster" (216 : Nat) "GangColumns$Arm" "end" "I" "GangColumns") ∈ lw_tbl := lw_at lw_m6 146 rfl
theorem q1464 : (Jvm.Cond.fieldLinkNest "GangColumns" (232 : Nat) "GangColumns$Arm" "end" "I" "GangColumns") ∈ lw_tbl := lw_at lw_m6 147 rfl
theorem q1465 : (Jvm.Cond.laysFinal "GangColumns$Arm" "GangColumns$Arm" "number" "I") ∈ lw_all := lw_g (lw_at lw_m6 148 rfl) rfl
theorem q1466 : (Jvm.Cond.soleField "GangColumns$Arm" "number") ∈ lw_all := lw_g (lw_at lw_m6 149 rfl) rfl
theorem q1467 : (Jvm.Cond.laysFinal "GangColumns$Arm" "GangColumns$Arm" "wide" "I") ∈ lw_all := lw_g (lw_at lw_m6 150 rfl) rfl
theorem q1468 : (Jvm.Cond.soleField "GangColumns$Arm" "wide") ∈ lw_all := lw_g (lw_at lw_m6 151 rfl) rfl
theorem q1469 : (Jvm.Cond.laysFinal "GangColumns$Arm" "GangColumns$Arm" "asks" "I") ∈ lw_all := lw_g (lw_at lw_m6 152 rfl) rfl
theorem q1470 : (Jvm.Cond.soleField "GangColumns$Arm" "asks") ∈ lw_all := lw_g (lw_at lw_m6 153 rfl) rfl
theorem q1471 : (Jvm.Cond.lays "GangColumns$Arm" "GangColumns$Arm" "column" "I") ∈ lw_all := lw_g (lw_at lw_m6 154 rfl) rfl
theorem q1472 : (Jvm.Cond.soleField "GangColumns$Arm" "column") ∈ lw_all := lw_g (lw_at lw_m6 155 rfl) rfl
theorem q1473 : (Jvm.Cond.lays "GangColumns$Arm" "GangColumns$Arm" "start" "I") ∈ lw_all := lw_g (lw_at lw_m6 156 rfl) rfl
theorem q1474 : (Jvm.Cond.soleField "GangColumns$Arm" "start") ∈ lw_all := lw_g (lw_at lw_m6 157 rfl) rfl
theorem q1475 : (Jvm.Cond.lays "GangColumns$Arm" "GangColumns$Arm" "end" "I") ∈ lw_all := lw_g (lw_at lw_m6 158 rfl) rfl
theorem q1476 : (Jvm.Cond.soleField "GangColumns$Arm" "end") ∈ lw_all := lw_g (lw_at lw_m6 159 rfl) rfl
theorem q1477 : (Jvm.Cond.superclass "GangColumns$Arm" "java/lang/Object") ∈ lw_all := lw_g (lw_at lw_m6 160 rfl) rfl
theorem q1478 : (Jvm.Cond.methodLink "GangColumns$ArmsReader" (62 : Nat) ({ cls := "java/util/ArrayList", name := "add", desc := "(Ljava/lang/Object;)Z" } : Jvm.MethodName)) ∈ lw_all := lw_g (lw_at lw_m6 161 rfl) rfl
theorem q1479 : (Jvm.Cond.instanceMethod ({ cls := "java/util/ArrayList", name := "add", desc := "(Ljava/lang/Object;)Z" } : Jvm.MethodName)) ∈ lw_all := lw_g (lw_at lw_m6 162 rfl) rfl
theorem q1480 : (Jvm.Cond.selects "java/util/ArrayList" ({ cls := "java/util/ArrayList", name := "add", desc := "(Ljava/lang/Object;)Z" } : Jvm.MethodName) ({ cls := "java/util/ArrayList", name := "add", desc := "(Ljava/lang/Object;)Z" } : Jvm.MethodName)) ∈ lw_all := lw_g (lw_at lw_m6 163 rfl) rfl
theorem q1481 : (Jvm.Cond.code ({ cls := "java/util/ArrayList", name := "add", desc := "(Ljava/lang/Object;)Z" } : Jvm.MethodName) prog_61_method_25_code (2 : Nat) (Option.some Jvm.ClassFile.FieldType.boolean)) ∈ lw_all := lw_g (lw_at lw_m6 164 rfl) rfl
theorem q1482 : (Jvm.Cond.methodLink "java/util/ArrayList" (131 : Nat) ({ cls := "java/util/ArrayList", name := "add", desc := "(Ljava/lang/Object;[Ljava/lang/Object;I)V" } : Jvm.MethodName)) ∈ lw_all := lw_g (lw_at lw_m6 165 rfl) rfl
theorem q1483 : (Jvm.Cond.privateMethod ({ cls := "java/util/ArrayList", name := "add", desc := "(Ljava/lang/Object;[Ljava/lang/Object;I)V" } : Jvm.MethodName)) ∈ lw_tbl := lw_at lw_m6 166 rfl
theorem q1484 : (Jvm.Cond.instanceMethod ({ cls := "java/util/ArrayList", name := "add", desc := "(Ljava/lang/Object;[Ljava/lang/Object;I)V" } : Jvm.MethodName)) ∈ lw_all := lw_g (lw_at lw_m6 167 rfl) rfl
theorem q1485 : (Jvm.Cond.code ({ cls := "java/util/ArrayList", name := "add", desc := "(Ljava/lang/Object;[Ljava/lang/Object;I)V" } : Jvm.MethodName) prog_61_method_24_code (4 : Nat) (Option.none : Option Jvm.ClassFile.FieldType)) ∈ lw_all := lw_g (lw_at lw_m6 168 rfl) rfl
theorem q1486 : (Jvm.Cond.methodLink "java/util/ArrayList" (129 : Nat) ({ cls := "java/util/ArrayList", name := "grow", desc := "()[Ljava/lang/Object;" } : Jvm.MethodName)) ∈ lw_all := lw_g (lw_at lw_m6 169 rfl) rfl
theorem q1487 : (Jvm.Cond.privateMethod ({ cls := "java/util/ArrayList", name := "grow", desc := "()[Ljava/lang/Object;" } : Jvm.MethodName)) ∈ lw_tbl := lw_at lw_m6 170 rfl
theorem q1488 : (Jvm.Cond.instanceMethod ({ cls := "java/util/ArrayList", name := "grow", desc := "()[Ljava/lang/Object;" } : Jvm.MethodName)) ∈ lw_all := lw_g (lw_at lw_m6 171 rfl) rfl
theorem q1489 : (Jvm.Cond.code ({ cls := "java/util/ArrayList", name := "grow", desc := "()[Ljava/lang/Object;" } : Jvm.MethodName) prog_61_method_7_code (1 : Nat) (Option.some (Jvm.ClassFile.FieldType.array (Jvm.ClassFile.FieldType.object "java/lang/Object")))) ∈ lw_all := lw_g (lw_at lw_m6 172 rfl) rfl
theorem q1490 : (Jvm.Cond.methodLink "java/util/ArrayList" (69 : Nat) ({ cls := "java/util/ArrayList", name := "grow", desc := "(I)[Ljava/lang/Object;" } : Jvm.MethodName)) ∈ lw_all := lw_g (lw_at lw_m6 173 rfl) rfl
theorem q1491 : (Jvm.Cond.privateMethod ({ cls := "java/util/ArrayList", name := "grow", desc := "(I)[Ljava/lang/Object;" } : Jvm.MethodName)) ∈ lw_tbl := lw_at lw_m6 174 rfl
theorem q1492 : (Jvm.Cond.instanceMethod ({ cls := "java/util/ArrayList", name := "grow", desc := "(I)[Ljava/lang/Object;" } : Jvm.MethodName)) ∈ lw_all := lw_g (lw_at lw_m6 175 rfl) rfl
theorem q1493 : (Jvm.Cond.code ({ cls := "java/util/ArrayList", name := "grow", desc := "(I)[Ljava/lang/Object;" } : Jvm.MethodName) prog_61_method_6_code (4 : Nat) (Option.some (Jvm.ClassFile.FieldType.array (Jvm.ClassFile.FieldType.object "java/lang/Object")))) ∈ lw_all := lw_g (lw_at lw_m6 176 rfl) rfl
theorem q1494 : (Jvm.Cond.methodLink "java/util/ArrayList" (73 : Nat) ({ cls := "jdk/internal/util/ArraysSupport", name := "newLength", desc := "(III)I" } : Jvm.MethodName)) ∈ lw_all := lw_g (lw_at lw_m6 177 rfl) rfl
theorem q1495 : (Jvm.Cond.static ({ cls := "jdk/internal/util/ArraysSupport", name := "newLength", desc := "(III)I" } : Jvm.MethodName)) ∈ lw_all := lw_g (lw_at lw_m6 178 rfl) rfl
theorem q1496 : (Jvm.Cond.code ({ cls := "jdk/internal/util/ArraysSupport", name := "newLength", desc := "(III)I" } : Jvm.MethodName) prog_96_method_27_code (4 : Nat) (Option.some Jvm.ClassFile.FieldType.int)) ∈ lw_all := lw_g (lw_at lw_m6 179 rfl) rfl
theorem q1497 : (Jvm.Cond.methodLink "jdk/internal/util/ArraysSupport" (194 : Nat) ({ cls := "java/lang/Math", name := "max", desc := "(II)I" } : Jvm.MethodName)) ∈ lw_all := lw_g (lw_at lw_m6 180 rfl) rfl
theorem q1498 : (Jvm.Cond.static ({ cls := "java/lang/Math", name := "max", desc := "(II)I" } : Jvm.MethodName)) ∈ lw_all := lw_g (lw_at lw_m6 181 rfl) rfl
theorem q1499 : (Jvm.Cond.code ({ cls := "java/lang/Math", name := "max", desc := "(II)I" } : Jvm.MethodName) prog_45_method_65_code (2 : Nat) (Option.some Jvm.ClassFile.FieldType.int)) ∈ lw_all := lw_g (lw_at lw_m6 182 rfl) rfl
theorem q1500 : (Jvm.Cond.constant "jdk/internal/util/ArraysSupport" (200 : Nat) (2147483639 : Int32)) ∈ lw_all := lw_g (lw_at lw_m6 183 rfl) rfl
theorem q1501 : (Jvm.Cond.methodLink "jdk/internal/util/ArraysSupport" (201 : Nat) ({ cls := "jdk/internal/util/ArraysSupport", name := "hugeLength", desc := "(II)I" } : Jvm.MethodName)) ∈ lw_all := lw_g (lw_at lw_m6 184 rfl) rfl
theorem q1502 : (Jvm.Cond.static ({ cls := "jdk/internal/util/ArraysSupport", name := "hugeLength", desc := "(II)I" } : Jvm.MethodName)) ∈ lw_all := lw_g (lw_at lw_m6 185 rfl) rfl
theorem q1503 : (Jvm.Cond.code ({ cls := "jdk/internal/util/ArraysSupport", name := "hugeLength", desc := "(II)I" } : Jvm.MethodName) prog_96_method_28_code (3 : Nat) (Option.some Jvm.ClassFile.FieldType.int)) ∈ lw_all := lw_g (lw_at lw_m6 186 rfl) rfl
theorem q1504 : (Jvm.Cond.methodLink "java/util/ArrayList" (66 : Nat) ({ cls := "java/util/Arrays", name := "copyOf", desc := "([Ljava/lang/Object;I)[Ljava/lang/Object;" } : Jvm.MethodName)) ∈ lw_all := lw_g (lw_at lw_m6 187 rfl) rfl
theorem q1505 : (Jvm.Cond.static ({ cls := "java/util/Arrays", name := "copyOf", desc := "([Ljava/lang/Object;I)[Ljava/lang/Object;" } : Jvm.MethodName)) ∈ lw_all := lw_g (lw_at lw_m6 188 rfl) rfl
theorem q1506 : (Jvm.Cond.code ({ cls := "java/util/Arrays", name := "copyOf", desc := "([Ljava/lang/Object;I)[Ljava/lang/Object;" } : Jvm.MethodName) prog_63_method_119_code (2 : Nat) (Option.some (Jvm.ClassFile.FieldType.array (Jvm.ClassFile.FieldType.object "java/lang/Object")))) ∈ lw_all := lw_g (lw_at lw_m6 189 rfl) rfl
theorem q1507 : (Jvm.Cond.methodLink "java/util/Arrays" (86 : Nat) ({ cls := "java/lang/Object", name := "getClass", desc := "()Ljava/lang/Class;" } : Jvm.MethodName)) ∈ lw_all := lw_g (lw_at lw_m6 190 rfl) rfl
theorem q1508 : (Jvm.Cond.instanceMethod ({ cls := "java/lang/Object", name := "getClass", desc := "()Ljava/lang/Class;" } : Jvm.MethodName)) ∈ lw_all := lw_g (lw_at lw_m6 191 rfl) rfl
theorem q1509 : (Jvm.Cond.sameMethod "java/lang/Object" "java/lang/Object" "getClass" "()Ljava/lang/Class;") ∈ lw_all := lw_g (lw_at lw_m6 192 rfl) rfl
theorem q1510 : (Jvm.Cond.selects "GangColumns" ({ cls := "java/lang/Object", name := "getClass", desc := "()Ljava/lang/Class;" } : Jvm.MethodName) ({ cls := "java/lang/Object", name := "getClass", desc := "()Ljava/lang/Class;" } : Jvm.MethodName)) ∈ lw_all := lw_g (lw_at lw_m6 193 rfl) rfl
theorem q1511 : (Jvm.Cond.selects "GangColumns$1" ({ cls := "java/lang/Object", name := "getClass", desc := "()Ljava/lang/Class;" } : Jvm.MethodName) ({ cls := "java/lang/Object", name := "getClass", desc := "()Ljava/lang/Class;" } : Jvm.MethodName)) ∈ lw_all := lw_g (lw_at lw_m6 194 rfl) rfl
theorem q1512 : (Jvm.Cond.selects "GangColumns$1Holds" ({ cls := "java/lang/Object", name := "getClass", desc := "()Ljava/lang/Class;" } : Jvm.MethodName) ({ cls := "java/lang/Object", name := "getClass", desc := "()Ljava/lang/Class;" } : Jvm.MethodName)) ∈ lw_all := lw_g (lw_at lw_m6 195 rfl) rfl
theorem q1513 : (Jvm.Cond.selects "GangColumns$Arm" ({ cls := "java/lang/Object", name := "getClass", desc := "()Ljava/lang/Class;" } : Jvm.MethodName) ({ cls := "java/lang/Object", name := "getClass", desc := "()Ljava/lang/Class;" } : Jvm.MethodName)) ∈ lw_all := lw_g (lw_at lw_m6 196 rfl) rfl
theorem q1514 : (Jvm.Cond.selects "GangColumns$ArmsReader" ({ cls := "java/lang/Object", name := "getClass", desc := "()Ljava/lang/Class;" } : Jvm.MethodName) ({ cls := "java/lang/Object", name := "getClass", desc := "()Ljava/lang/Class;" } : Jvm.MethodName)) ∈ lw_all := lw_g (lw_at lw_m6 197 rfl) rfl
theorem q1515 : (Jvm.Cond.selects "GangColumns$ByEnd" ({ cls := "java/lang/Object", name := "getClass", desc := "()Ljava/lang/Class;" } : Jvm.MethodName) ({ cls := "java/lang/Object", name := "getClass", desc := "()Ljava/lang/Class;" } : Jvm.MethodName)) ∈ lw_all := lw_g (lw_at lw_m6 198 rfl) rfl
theorem q1516 : (Jvm.Cond.selects "GangColumns$ByWidth" ({ cls := "java/lang/Object", name := "getClass", desc := "()Ljava/lang/Class;" } : Jvm.MethodName) ({ cls := "java/lang/Object", name := "getClass", desc := "()Ljava/lang/Class;" } : Jvm.MethodName)) ∈ lw_all := lw_g (lw_at lw_m6 199 rfl) rfl
theorem q1517 : (Jvm.Cond.selects "GangColumns$Cluster" ({ cls := "java/lang/Object", name := "getClass", desc := "()Ljava/lang/Class;" } : Jvm.MethodName) ({ cls := "java/lang/Object", name := "getClass", desc := "()Ljava/lang/Class;" } : Jvm.MethodName)) ∈ lw_all := lw_g (lw_at lw_m6 200 rfl) rfl
theorem q1518 : (Jvm.Cond.selects "GangColumns$Cluster$InLine" ({ cls := "java/lang/Object", name := "getClass", desc := "()Ljava/lang/Class;" } : Jvm.MethodName) ({ cls := "java/lang/Object", name := "getClass", desc := "()Ljava/lang/Class;" } : Jvm.MethodName)) ∈ lw_all := lw_g (lw_at lw_m6 201 rfl) rfl
theorem q1519 : (Jvm.Cond.selects "GangColumns$Column" ({ cls := "java/lang/Object", name := "getClass", desc := "()Ljava/lang/Class;" } : Jvm.MethodName) ({ cls := "java/lang/Object", name := "getClass", desc := "()Ljava/lang/Class;" } : Jvm.MethodName)) ∈ lw_all := lw_g (lw_at lw_m6 202 rfl) rfl
theorem q1520 : (Jvm.Cond.selects "GangColumns$Event" ({ cls := "java/lang/Object", name := "getClass", desc := "()Ljava/lang/Class;" } : Jvm.MethodName) ({ cls := "java/lang/Object", name := "getClass", desc := "()Ljava/lang/Class;" } : Jvm.MethodName)) ∈ lw_all := lw_g (lw_at lw_m6 203 rfl) rfl
theorem q1521 : (Jvm.Cond.selects "GangColumns$Fault" ({ cls := "java/lang/Object", name := "getClass", desc := "()Ljava/lang/Class;" } : Jvm.MethodName) ({ cls := "java/lang/Object", name := "getClass", desc := "()Ljava/lang/Class;" } : Jvm.MethodName)) ∈ lw_all := lw_g (lw_at lw_m6 204 rfl) rfl
theorem q1522 : (Jvm.Cond.selects "GangColumns$Foresight" ({ cls := "java/lang/Object", name := "getClass", desc := "()Ljava/lang/Class;" } : Jvm.MethodName) ({ cls := "java/lang/Object", name := "getClass", desc := "()Ljava/lang/Class;" } : Jvm.MethodName)) ∈ lw_all := lw_g (lw_at lw_m6 205 rfl) rfl
theorem q1523 : (Jvm.Cond.selects "GangColumns$FreeRuns" ({ cls := "java/lang/Object", name := "getClass", desc := "()Ljava/lang/Class;" } : Jvm.MethodName) ({ cls := "java/lang/Object", name := "getClass", desc := "()Ljava/lang/Class;" } : Jvm.MethodName)) ∈ lw_all := lw_g (lw_at lw_m6 206 rfl) rfl
theorem q1524 : (Jvm.Cond.selects "GangColumns$FreeRuns$1" ({ cls := "java/lang/Object", name := "getClass", desc := "()Ljava/lang/Class;" } : Jvm.MethodName) ({ cls := "java/lang/Object", name := "getClass", desc := "()Ljava/lang/Class;" } : Jvm.MethodName)) ∈ lw_all := lw_g (lw_at lw_m6 207 rfl) rfl
theorem q1525 : (Jvm.Cond.selects "GangColumns$Going" ({ cls := "java/lang/Object", name := "getClass", desc := "()Ljava/lang/Class;" } : Jvm.MethodName) ({ cls := "java/lang/Object", name := "getClass", desc := "()Ljava/lang/Class;" } : Jvm.MethodName)) ∈ lw_all := lw_g (lw_at lw_m6 208 rfl) rfl
theorem q1526 : (Jvm.Cond.selects "GangColumns$Job" ({ cls := "java/lang/Object", name := "getClass", desc := "()Ljava/lang/Class;" } : Jvm.MethodName) ({ cls := "java/lang/Object", name := "getClass", desc := "()Ljava/lang/Class;" } : Jvm.MethodName)) ∈ lw_all := lw_g (lw_at lw_m6 209 rfl) rfl
theorem q1527 : (Jvm.Cond.selects "GangColumns$Kept" ({ cls := "java/lang/Object", name := "getClass", desc := "()Ljava/lang/Class;" } : Jvm.MethodName) ({ cls := "java/lang/Object", name := "getClass", desc := "()Ljava/lang/Class;" } : Jvm.MethodName)) ∈ lw_all := lw_g (lw_at lw_m6 210 rfl) rfl
theorem q1528 : (Jvm.Cond.selects "GangColumns$Moves" ({ cls := "java/lang/Object", name := "getClass", desc := "()Ljava/lang/Class;" } : Jvm.MethodName) ({ cls := "java/lang/Object", name := "getClass", desc := "()Ljava/lang/Class;" } : Jvm.MethodName)) ∈ lw_all := lw_g (lw_at lw_m6 211 rfl) rfl
theorem q1529 : (Jvm.Cond.selects "GangColumns$Orders" ({ cls := "java/lang/Object", name := "getClass", desc := "()Ljava/lang/Class;" } : Jvm.MethodName) ({ cls := "java/lang/Object", name := "getClass", desc := "()Ljava/lang/Class;" } : Jvm.MethodName)) ∈ lw_all := lw_g (lw_at lw_m6 212 rfl) rfl
theorem q1530 : (Jvm.Cond.selects "GangColumns$Promised" ({ cls := "java/lang/Object", name := "getClass", desc := "()Ljava/lang/Class;" } : Jvm.MethodName) ({ cls := "java/lang/Object", name := "getClass", desc := "()Ljava/lang/Class;" } : Jvm.MethodName)) ∈ lw_all := lw_g (lw_at lw_m6 213 rfl) rfl
theorem q1531 : (Jvm.Cond.selects "GangColumns$Promises" ({ cls := "java/lang/Object", name := "getClass", desc := "()Ljava/lang/Class;" } : Jvm.MethodName) ({ cls := "java/lang/Object", name := "getClass", desc := "()Ljava/lang/Class;" } : Jvm.MethodName)) ∈ lw_all := lw_g (lw_at lw_m6 214 rfl) rfl
theorem q1532 : (Jvm.Cond.selects "GangColumns$Run" ({ cls := "java/lang/Object", name := "getClass", desc := "()Ljava/lang/Class;" } : Jvm.MethodName) ({ cls := "java/lang/Object", name := "getClass", desc := "()Ljava/lang/Class;" } : Jvm.MethodName)) ∈ lw_all := lw_g (lw_at lw_m6 215 rfl) rfl
theorem q1533 : (Jvm.Cond.selects "GangColumns$Runs" ({ cls := "java/lang/Object", name := "getClass", desc := "()Ljava/lang/Class;" } : Jvm.MethodName) ({ cls := "java/lang/Object", name := "getClass", desc := "()Ljava/lang/Class;" } : Jvm.MethodName)) ∈ lw_all := lw_g (lw_at lw_m6 216 rfl) rfl
theorem q1534 : (Jvm.Cond.selects "GangColumns$Share" ({ cls := "java/lang/Object", name := "getClass", desc := "()Ljava/lang/Class;" } : Jvm.MethodName) ({ cls := "java/lang/Object", name := "getClass", desc := "()Ljava/lang/Class;" } : Jvm.MethodName)) ∈ lw_all := lw_g (lw_at lw_m6 217 rfl) rfl
theorem q1535 : (Jvm.Cond.selects "GangColumns$Span" ({ cls := "java/lang/Object", name := "getClass", desc := "()Ljava/lang/Class;" } : Jvm.MethodName) ({ cls := "java/lang/Object", name := "getClass", desc := "()Ljava/lang/Class;" } : Jvm.MethodName)) ∈ lw_all := lw_g (lw_at lw_m6 218 rfl) rfl
theorem q1536 : (Jvm.Cond.selects "GangColumns$WidestGoing" ({ cls := "java/lang/Object", name := "getClass", desc := "()Ljava/lang/Class;" } : Jvm.MethodName) ({ cls := "java/lang/Object", name := "getClass", desc := "()Ljava/lang/Class;" } : Jvm.MethodName)) ∈ lw_all := lw_g (lw_at lw_m6 219 rfl) rfl
theorem q1537 : (Jvm.Cond.selects "GangColumnsModel" ({ cls := "java/lang/Object", name := "getClass", desc := "()Ljava/lang/Class;" } : Jvm.MethodName) ({ cls := "java/lang/Object", name := "getClass", desc := "()Ljava/lang/Class;" } : Jvm.MethodName)) ∈ lw_all := lw_g (lw_at lw_m6 220 rfl) rfl
theorem q1538 : (Jvm.Cond.selects "java/lang/Integer" ({ cls := "java/lang/Object", name := "getClass", desc := "()Ljava/lang/Class;" } : Jvm.MethodName) ({ cls := "java/lang/Object", name := "getClass", desc := "()Ljava/lang/Class;" } : Jvm.MethodName)) ∈ lw_all := lw_g (lw_at lw_m6 221 rfl) rfl
theorem q1539 : (Jvm.Cond.selects "java/lang/String" ({ cls := "java/lang/Object", name := "getClass", desc := "()Ljava/lang/Class;" } : Jvm.MethodName) ({ cls := "java/lang/Object", name := "getClass", desc := "()Ljava/lang/Class;" } : Jvm.MethodName)) ∈ lw_all := lw_g (lw_at lw_m6 222 rfl) rfl
theorem q1540 : (Jvm.Cond.selects "java/lang/StringBuilder" ({ cls := "java/lang/Object", name := "getClass", desc := "()Ljava/lang/Class;" } : Jvm.MethodName) ({ cls := "java/lang/Object", name := "getClass", desc := "()Ljava/lang/Class;" } : Jvm.MethodName)) ∈ lw_all := lw_g (lw_at lw_m6 223 rfl) rfl
theorem q1541 : (Jvm.Cond.selects "java/util/ArrayList" ({ cls := "java/lang/Object", name := "getClass", desc := "()Ljava/lang/Class;" } : Jvm.MethodName) ({ cls := "java/lang/Object", name := "getClass", desc := "()Ljava/lang/Class;" } : Jvm.MethodName)) ∈ lw_all := lw_g (lw_at lw_m6 224 rfl) rfl
theorem q1542 : (Jvm.Cond.selects "java/util/ArrayList$Itr" ({ cls := "java/lang/Object", name := "getClass", desc := "()Ljava/lang/Class;" } : Jvm.MethodName) ({ cls := "java/lang/Object", name := "getClass", desc := "()Ljava/lang/Class;" } : Jvm.MethodName)) ∈ lw_all := lw_g (lw_at lw_m6 225 rfl) rfl
theorem q1543 : (Jvm.Cond.selects "java/util/PriorityQueue" ({ cls := "java/lang/Object", name := "getClass", desc := "()Ljava/lang/Class;" } : Jvm.MethodName) ({ cls := "java/lang/Object", name := "getClass", desc := "()Ljava/lang/Class;" } : Jvm.MethodName)) ∈ lw_all := lw_g (lw_at lw_m6 226 rfl) rfl
theorem q1544 : (Jvm.Cond.selects "java/util/PriorityQueue$Itr" ({ cls := "java/lang/Object", name := "getClass", desc := "()Ljava/lang/Class;" } : Jvm.MethodName) ({ cls := "java/lang/Object", name := "getClass", desc := "()Ljava/lang/Class;" } : Jvm.MethodName)) ∈ lw_all := lw_g (lw_at lw_m6 227 rfl) rfl
theorem q1545 : (Jvm.Cond.selects "java/util/TreeMap" ({ cls := "java/lang/Object", name := "getClass", desc := "()Ljava/lang/Class;" } : Jvm.MethodName) ({ cls := "java/lang/Object", name := "getClass", desc := "()Ljava/lang/Class;" } : Jvm.MethodName)) ∈ lw_all := lw_g (lw_at lw_m6 228 rfl) rfl
theorem q1546 : (Jvm.Cond.selects "java/util/TreeMap$Entry" ({ cls := "java/lang/Object", name := "getClass", desc := "()Ljava/lang/Class;" } : Jvm.MethodName) ({ cls := "java/lang/Object", name := "getClass", desc := "()Ljava/lang/Class;" } : Jvm.MethodName)) ∈ lw_all := lw_g (lw_at lw_m6 229 rfl) rfl
theorem q1547 : (Jvm.Cond.selects "java/util/TreeMap$EntryIterator" ({ cls := "java/lang/Object", name := "getClass", desc := "()Ljava/lang/Class;" } : Jvm.MethodName) ({ cls := "java/lang/Object", name := "getClass", desc := "()Ljava/lang/Class;" } : Jvm.MethodName)) ∈ lw_all := lw_g (lw_at lw_m6 230 rfl) rfl
theorem q1548 : (Jvm.Cond.selects "java/util/TreeMap$EntrySet" ({ cls := "java/lang/Object", name := "getClass", desc := "()Ljava/lang/Class;" } : Jvm.MethodName) ({ cls := "java/lang/Object", name := "getClass", desc := "()Ljava/lang/Class;" } : Jvm.MethodName)) ∈ lw_all := lw_g (lw_at lw_m6 231 rfl) rfl
theorem q1549 : (Jvm.Cond.selects "java/util/TreeMap$KeyIterator" ({ cls := "java/lang/Object", name := "getClass", desc := "()Ljava/lang/Class;" } : Jvm.MethodName) ({ cls := "java/lang/Object", name := "getClass", desc := "()Ljava/lang/Class;" } : Jvm.MethodName)) ∈ lw_all := lw_g (lw_at lw_m6 232 rfl) rfl
theorem q1550 : (Jvm.Cond.selects "java/util/TreeMap$KeySet" ({ cls := "java/lang/Object", name := "getClass", desc := "()Ljava/lang/Class;" } : Jvm.MethodName) ({ cls := "java/lang/Object", name := "getClass", desc := "()Ljava/lang/Class;" } : Jvm.MethodName)) ∈ lw_all := lw_g (lw_at lw_m6 233 rfl) rfl
theorem q1551 : (Jvm.Cond.selects "java/util/TreeMap$ValueIterator" ({ cls := "java/lang/Object", name := "getClass", desc := "()Ljava/lang/Class;" } : Jvm.MethodName) ({ cls := "java/lang/Object", name := "getClass", desc := "()Ljava/lang/Class;" } : Jvm.MethodName)) ∈ lw_all := lw_g (lw_at lw_m6 234 rfl) rfl
theorem q1552 : (Jvm.Cond.selects "java/util/TreeMap$Values" ({ cls := "java/lang/Object", name := "getClass", desc := "()Ljava/lang/Class;" } : Jvm.MethodName) ({ cls := "java/lang/Object", name := "getClass", desc := "()Ljava/lang/Class;" } : Jvm.MethodName)) ∈ lw_all := lw_g (lw_at lw_m6 235 rfl) rfl
theorem q1553 : (Jvm.Cond.selects "java/util/TreeSet" ({ cls := "java/lang/Object", name := "getClass", desc := "()Ljava/lang/Class;" } : Jvm.MethodName) ({ cls := "java/lang/Object", name := "getClass", desc := "()Ljava/lang/Class;" } : Jvm.MethodName)) ∈ lw_all := lw_g (lw_at lw_m6 236 rfl) rfl
theorem q1554 : (Jvm.Cond.selects "jdk/internal/misc/Unsafe" ({ cls := "java/lang/Object", name := "getClass", desc := "()Ljava/lang/Class;" } : Jvm.MethodName) ({ cls := "java/lang/Object", name := "getClass", desc := "()Ljava/lang/Class;" } : Jvm.MethodName)) ∈ lw_all := lw_g (lw_at lw_m6 237 rfl) rfl
theorem q1555 : (Jvm.Cond.native ({ cls := "java/lang/Object", name := "getClass", desc := "()Ljava/lang/Class;" } : Jvm.MethodName)) ∈ lw_all := lw_g (lw_at lw_m6 238 rfl) rfl
theorem q1556 : (Jvm.Cond.methodLink "java/util/Arrays" (300 : Nat) ({ cls := "java/util/Arrays", name := "copyOf", desc := "([Ljava/lang/Object;ILjava/lang/Class;)[Ljava/lang/Object;" } : Jvm.MethodName)) ∈ lw_all := lw_g (lw_at lw_m6 239 rfl) rfl
theorem q1557 : (Jvm.Cond.static ({ cls := "java/util/Arrays", name := "copyOf", desc := "([Ljava/lang/Object;ILjava/lang/Class;)[Ljava/lang/Object;" } : Jvm.MethodName)) ∈ lw_all := lw_g (lw_at lw_m7 0 rfl) rfl
theorem q1558 : (Jvm.Cond.code ({ cls := "java/util/Arrays", name := "copyOf", desc := "([Ljava/lang/Object;ILjava/lang/Class;)[Ljava/lang/Object;" } : Jvm.MethodName) prog_63_method_120_code (4 : Nat) (Option.some (Jvm.ClassFile.FieldType.array (Jvm.ClassFile.FieldType.object "java/lang/Object")))) ∈ lw_all := lw_g (lw_at lw_m7 1 rfl) rfl
theorem q1559 : (Jvm.Cond.classLink "java/util/Arrays" (110 : Nat) "[Ljava/lang/Object;") ∈ lw_all := lw_g (lw_at lw_m7 2 rfl) rfl
theorem q1560 : (Jvm.Cond.classLink "java/util/Arrays" (2 : Nat) "java/lang/Object") ∈ lw_all := lw_g (lw_at lw_m7 3 rfl) rfl
theorem q1561 : (Jvm.Cond.methodLink "java/util/Arrays" (304 : Nat) ({ cls := "java/lang/Math", name := "min", desc := "(II)I" } : Jvm.MethodName)) ∈ lw_all := lw_g (lw_at lw_m7 4 rfl) rfl
theorem q1562 : (Jvm.Cond.methodLink "java/util/Arrays" (150 : Nat) ({ cls := "java/lang/System", name := "arraycopy", desc := "(Ljava/lang/Object;ILjava/lang/Object;II)V" } : Jvm.MethodName)) ∈ lw_all := lw_g (lw_at lw_m7 5 rfl) rfl
theorem q1563 : (Jvm.Cond.static ({ cls := "java/lang/System", name := "arraycopy", desc := "(Ljava/lang/Object;ILjava/lang/Object;II)V" } : Jvm.MethodName)) ∈ lw_all := lw_g (lw_at lw_m7 6 rfl) rfl
theorem q1564 : (Jvm.Cond.native ({ cls := "java/lang/System", name := "arraycopy", desc := "(Ljava/lang/Object;ILjava/lang/Object;II)V" } : Jvm.MethodName)) ∈ lw_all := lw_g (lw_at lw_m7 7 rfl) rfl
theorem q1565 : (Jvm.Cond.methodLink "java/util/ArrayList" (79 : Nat) ({ cls := "java/lang/Math", name := "max", desc := "(II)I" } : Jvm.MethodName)) ∈ lw_all := lw_g (lw_at lw_m7 8 rfl) rfl
theorem q1566 : (Jvm.Cond.classLink "java/util/ArrayList" (7 : Nat) "java/lang/Object") ∈ lw_all := lw_g (lw_at lw_m7 9 rfl) rfl
theorem q1567 : (Jvm.Cond.instantiable "GangColumns$Job" (13 : Nat)) ∈ lw_all := lw_g (lw_at lw_m7 10 rfl) rfl
theorem q1568 : (Jvm.Cond.methodLink "GangColumns" (150 : Nat) ({ cls := "GangColumns$ArmsReader", name := "row", desc := "()[LGangColumns$Arm;" } : Jvm.MethodName)) ∈ lw_all := lw_g (lw_at lw_m7 11 rfl) rfl
theorem q1569 : (Jvm.Cond.instanceMethod ({ cls := "GangColumns$ArmsReader", name := "row", desc := "()[LGangColumns$Arm;" } : Jvm.MethodName)) ∈ lw_all := lw_g (lw_at lw_m7 12 rfl) rfl
theorem q1570 : (Jvm.Cond.selects "GangColumns$ArmsReader" ({ cls := "GangColumns$ArmsReader", name := "row", desc := "()[LGangColumns$Arm;" } : Jvm.MethodName) ({ cls := "GangColumns$ArmsReader", name := "row", desc := "()[LGangColumns$Arm;" } : Jvm.MethodName)) ∈ lw_all := lw_g (lw_at lw_m7 13 rfl) rfl
theorem q1571 : (Jvm.Cond.code ({ cls := "GangColumns$ArmsReader", name := "row", desc := "()[LGangColumns$Arm;" } : Jvm.MethodName) prog_5_method_6_code (3 : Nat) (Option.some (Jvm.ClassFile.FieldType.array (Jvm.ClassFile.FieldType.object "GangColumns$Arm")))) ∈ lw_all := lw_g (lw_at lw_m7 14 rfl) rfl
theorem q1572 : (Jvm.Cond.arrayOver (Jvm.ClassFile.FieldType.object "GangColumns$Arm")) ∈ lw_tbl := lw_at lw_m7 15 rfl
theorem q1573 : (Jvm.Cond.methodLink "GangColumns$ArmsReader" (72 : Nat) ({ cls := "java/util/ArrayList", name := "get", desc := "(I)Ljava/lang/Object;" } : Jvm.MethodName)) ∈ lw_all := lw_g (lw_at lw_m7 16 rfl) rfl
theorem q1574 : (Jvm.Cond.methodLink "GangColumns" (154 : Nat) ({ cls := "GangColumns$Job", name := "<init>", desc := "(IIIIII[LGangColumns$Arm;)V" } : Jvm.MethodName)) ∈ lw_all := lw_g (lw_at lw_m7 17 rfl) rfl
theorem q1575 : (Jvm.Cond.instanceMethod ({ cls := "GangColumns$Job", name := "<init>", desc := "(IIIIII[LGangColumns$Arm;)V" } : Jvm.MethodName)) ∈ lw_all := lw_g (lw_at lw_m7 18 rfl) rfl
theorem q1576 : (Jvm.Cond.code ({ cls := "GangColumns$Job", name := "<init>", desc := "(IIIIII[LGangColumns$Arm;)V" } : Jvm.MethodName) prog_18_method_1_code (11 : Nat) (Option.none : Option Jvm.ClassFile.FieldType)) ∈ lw_all := lw_g (lw_at lw_m7 19 rfl) rfl
theorem q1577 : (Jvm.Cond.methodLink "GangColumns$Job" (3 : Nat) ({ cls := "java/lang/Object", name := "<init>", desc := "()V" } : Jvm.MethodName)) ∈ lw_all := lw_g (lw_at lw_m7 20 rfl) rfl
theorem q1578 : (Jvm.Cond.classLink "GangColumns$Job" (46 : Nat) "GangColumns$Arm") ∈ lw_all := lw_g (lw_at lw_m7 21 rfl) rfl
theorem q1579 : (Jvm.Cond.methodLink "GangColumns$Job" (51 : Nat) ({ cls := "GangColumns$Job", name := "byWidth", desc := "()Ljava/util/TreeSet;" } : Jvm.MethodName)) ∈ lw_all := lw_g (lw_at lw_m7 22 rfl) rfl
theorem q1580 : (Jvm.Cond.privateMethod ({ cls := "GangColumns$Job", name := "byWidth", desc := "()Ljava/util/TreeSet;" } : Jvm.MethodName)) ∈ lw_tbl := lw_at lw_m7 23 rfl
theorem q1581 : (Jvm.Cond.instanceMethod ({ cls := "GangColumns$Job", name := "byWidth", desc := "()Ljava/util/TreeSet;" } : Jvm.MethodName)) ∈ lw_all := lw_g (lw_at lw_m7 24 rfl) rfl
theorem q1582 : (Jvm.Cond.code ({ cls := "GangColumns$Job", name := "byWidth", desc := "()Ljava/util/TreeSet;" } : Jvm.MethodName) prog_18_method_3_code (6 : Nat) (Option.some (Jvm.ClassFile.FieldType.object "java/util/TreeSet"))) ∈ lw_all := lw_g (lw_at lw_m7 25 rfl) rfl
theorem q1583 : (Jvm.Cond.classLink "GangColumns$Job" (56 : Nat) "java/util/TreeSet") ∈ lw_all := lw_g (lw_at lw_m7 26 rfl) rfl
theorem q1584 : (Jvm.Cond.instantiable "java/util/TreeSet" (1 : Nat)) ∈ lw_all := lw_g (lw_at lw_m7 27 rfl) rfl
theorem q1585 : (Jvm.Cond.classLink "GangColumns$Job" (74 : Nat) "GangColumns$ByWidth") ∈ lw_all := lw_g (lw_at lw_m7 28 rfl) rfl
theorem q1586 : (Jvm.Cond.instantiable "GangColumns$ByWidth" (0 : Nat)) ∈ lw_all := lw_g (lw_at lw_m7 29 rfl) rfl
theorem q1587 : (Jvm.Cond.methodLinkNest "GangColumns$Job" (76 : Nat) ({ cls := "GangColumns$ByWidth", name := "<init>", desc := "()V" } : Jvm.MethodName) "GangColumns") ∈ lw_tbl := lw_at lw_m7 30 rfl
theorem q1588 : (Jvm.Cond.instanceMethod ({ cls := "GangColumns$ByWidth", name := "<init>", desc := "()V" } : Jvm.MethodName)) ∈ lw_all := lw_g (lw_at lw_m7 31 rfl) rfl
theorem q1589 : (Jvm.Cond.code ({ cls := "GangColumns$ByWidth", name := "<init>", desc := "()V" } : Jvm.MethodName) prog_7_method_1_code (1 : Nat) (Option.none : Option Jvm.ClassFile.FieldType)) ∈ lw_all := lw_g (lw_at lw_m7 32 rfl) rfl
theorem q1590 : (Jvm.Cond.methodLink "GangColumns$ByWidth" (1 : Nat) ({ cls := "java/lang/Object", name := "<init>", desc := "()V" } : Jvm.MethodName)) ∈ lw_all := lw_g (lw_at lw_m7 33 rfl) rfl
theorem q1591 : (Jvm.Cond.superclass "GangColumns$ByWidth" "java/lang/Object") ∈ lw_all := lw_g (lw_at lw_m7 34 rfl) rfl
theorem q1592 : (Jvm.Cond.methodLink "GangColumns$Job" (77 : Nat) ({ cls := "java/util/TreeSet", name := "<init>", desc := "(Ljava/util/Comparator;)V" } : Jvm.MethodName)) ∈ lw_all := lw_g (lw_at lw_m7 35 rfl) rfl
theorem q1593 : (Jvm.Cond.instanceMethod ({ cls := "java/util/TreeSet", name := "<init>", desc := "(Ljava/util/Comparator;)V" } : Jvm.MethodName)) ∈ lw_all := lw_g (lw_at lw_m7 36 rfl) rfl
theorem q1594 : (Jvm.Cond.code ({ cls := "java/util/TreeSet", name := "<init>", desc := "(Ljava/util/Comparator;)V" } : Jvm.MethodName) prog_93_method_3_code (2 : Nat) (Option.none : Option Jvm.ClassFile.FieldType)) ∈ lw_all := lw_g (lw_at lw_m7 37 rfl) rfl
theorem q1595 : (Jvm.Cond.classLink "java/util/TreeSet" (13 : Nat) "java/util/TreeMap") ∈ lw_all := lw_g (lw_at lw_m7 38 rfl) rfl
theorem q1596 : (Jvm.Cond.methodLink "java/util/TreeSet" (19 : Nat) ({ cls := "java/util/TreeMap", name := "<init>", desc := "(Ljava/util/Comparator;)V" } : Jvm.MethodName)) ∈ lw_all := lw_g (lw_at lw_m7 39 rfl) rfl
theorem q1597 : (Jvm.Cond.instanceMethod ({ cls := "java/util/TreeMap", name := "<init>", desc := "(Ljava/util/Comparator;)V" } : Jvm.MethodName)) ∈ lw_all := lw_g (lw_at lw_m7 40 rfl) rfl
theorem q1598 : (Jvm.Cond.code ({ cls := "java/util/TreeMap", name := "<init>", desc := "(Ljava/util/Comparator;)V" } : Jvm.MethodName) prog_83_method_2_code (2 : Nat) (Option.none : Option Jvm.ClassFile.FieldType)) ∈ lw_all := lw_g (lw_at lw_m7 41 rfl) rfl
theorem q1599 : (Jvm.Cond.methodLink "java/util/TreeSet" (16 : Nat) ({ cls := "java/util/TreeSet", name := "<init>", desc := "(Ljava/util/NavigableMap;)V" } : Jvm.MethodName)) ∈ lw_all := lw_g (lw_at lw_m7 42 rfl) rfl
theorem q1600 : (Jvm.Cond.instanceMethod ({ cls := "java/util/TreeSet", name := "<init>", desc := "(Ljava/util/NavigableMap;)V" } : Jvm.MethodName)) ∈ lw_all := lw_g (lw_at lw_m7 43 rfl) rfl
theorem q1601 : (Jvm.Cond.code ({ cls := "java/util/TreeSet", name := "<init>", desc := "(Ljava/util/NavigableMap;)V" } : Jvm.MethodName) prog_93_method_1_code (2 : Nat) (Option.none : Option Jvm.ClassFile.FieldType)) ∈ lw_all := lw_g (lw_at lw_m7 44 rfl) rfl
theorem q1602 : (Jvm.Cond.methodLink "java/util/TreeSet" (1 : Nat) ({ cls := "java/util/AbstractSet", name := "<init>", desc := "()V" } : Jvm.MethodName)) ∈ lw_all := lw_g (lw_at lw_m7 45 rfl) rfl
theorem q1603 : (Jvm.Cond.fieldLink "java/util/TreeSet" (7 : Nat) "java/util/TreeSet" "m" "Ljava/util/NavigableMap;") ∈ lw_all := lw_g (lw_at lw_m7 46 rfl) rfl
theorem q1604 : (Jvm.Cond.lays "java/util/TreeSet" "java/util/TreeSet" "m" "Ljava/util/NavigableMap;") ∈ lw_all := lw_g (lw_at lw_m7 47 rfl) rfl
theorem q1605 : (Jvm.Cond.soleField "java/util/TreeSet" "m") ∈ lw_all := lw_g (lw_at lw_m7 48 rfl) rfl
theorem q1606 : (Jvm.Cond.superclass "java/util/TreeSet" "java/util/AbstractSet") ∈ lw_all := lw_g (lw_at lw_m7 49 rfl) rfl
theorem q1607 : (Jvm.Cond.methodLink "GangColumns$Job" (80 : Nat) ({ cls := "java/util/TreeSet", name := "add", desc := "(Ljava/lang/Object;)Z" } : Jvm.MethodName)) ∈ lw_all := lw_g (lw_at lw_m7 50 rfl) rfl
theorem q1608 : (Jvm.Cond.instanceMethod ({ cls := "java/util/TreeSet", name := "add", desc := "(Ljava/lang/Object;)Z" } : Jvm.MethodName)) ∈ lw_all := lw_g (lw_at lw_m7 51 rfl) rfl
theorem q1609 : (Jvm.Cond.selects "java/util/TreeSet" ({ cls := "java/util/TreeSet", name := "add", desc := "(Ljava/lang/Object;)Z" } : Jvm.MethodName) ({ cls := "java/util/TreeSet", name := "add", desc := "(Ljava/lang/Object;)Z" } : Jvm.MethodName)) ∈ lw_all := lw_g (lw_at lw_m7 52 rfl) rfl
theorem q1610 : (Jvm.Cond.code ({ cls := "java/util/TreeSet", name := "add", desc := "(Ljava/lang/Object;)Z" } : Jvm.MethodName) prog_93_method_12_code (2 : Nat) (Option.some Jvm.ClassFile.FieldType.boolean)) ∈ lw_all := lw_g (lw_at lw_m7 53 rfl) rfl
theorem q1611 : (Jvm.Cond.fieldLink "java/util/TreeSet" (65 : Nat) "java/util/TreeSet" "PRESENT" "Ljava/lang/Object;") ∈ lw_all := lw_g (lw_at lw_m7 54 rfl) rfl
theorem q1612 : (Jvm.Cond.laysStatic "java/util/TreeSet" "PRESENT" "Ljava/lang/Object;") ∈ lw_tbl := lw_at lw_m7 55 rfl
theorem q1613 : (Jvm.Cond.interfaceEntry "java/util/TreeSet" (69 : Nat)) ∈ lw_tbl := lw_at lw_m7 56 rfl
theorem q1614 : (Jvm.Cond.publicMethod ({ cls := "java/util/Map", name := "put", desc := "(Ljava/lang/Object;Ljava/lang/Object;)Ljava/lang/Object;" } : Jvm.MethodName)) ∈ lw_tbl := lw_at lw_m7 57 rfl
theorem q1615 : (Jvm.Cond.declares ({ cls := "java/util/Map", name := "put", desc := "(Ljava/lang/Object;Ljava/lang/Object;)Ljava/lang/Object;" } : Jvm.MethodName)) ∈ lw_tbl := lw_at lw_m7 58 rfl
theorem q1616 : (Jvm.Cond.selects "java/util/TreeMap" ({ cls := "java/util/Map", name := "put", desc := "(Ljava/lang/Object;Ljava/lang/Object;)Ljava/lang/Object;" } : Jvm.MethodName) ({ cls := "java/util/TreeMap", name := "put", desc := "(Ljava/lang/Object;Ljava/lang/Object;)Ljava/lang/Object;" } : Jvm.MethodName)) ∈ lw_all := lw_g (lw_at lw_m7 59 rfl) rfl
theorem q1617 : (Jvm.Cond.unhidden "java/util/TreeMap" "put" "(Ljava/lang/Object;Ljava/lang/Object;)Ljava/lang/Object;") ∈ lw_tbl := lw_at lw_m7 60 rfl
theorem q1618 : (Jvm.Cond.publicMethod ({ cls := "java/util/TreeMap", name := "put", desc := "(Ljava/lang/Object;Ljava/lang/Object;)Ljava/lang/Object;" } : Jvm.MethodName)) ∈ lw_tbl := lw_at lw_m7 61 rfl
theorem q1619 : (Jvm.Cond.methodLink "GangColumns$Job" (55 : Nat) ({ cls := "java/util/TreeSet", name := "iterator", desc := "()Ljava/util/Iterator;" } : Jvm.MethodName)) ∈ lw_all := lw_g (lw_at lw_m7 62 rfl) rfl
theorem q1620 : (Jvm.Cond.interfaceEntry "GangColumns$Job" (61 : Nat)) ∈ lw_tbl := lw_at lw_m7 63 rfl
theorem q1621 : (Jvm.Cond.methodLink "GangColumns$Job" (61 : Nat) ({ cls := "java/util/Iterator", name := "hasNext", desc := "()Z" } : Jvm.MethodName)) ∈ lw_all := lw_g (lw_at lw_m7 64 rfl) rfl
theorem q1622 : (Jvm.Cond.interfaceEntry "GangColumns$Job" (67 : Nat)) ∈ lw_tbl := lw_at lw_m7 65 rfl
theorem q1623 : (Jvm.Cond.methodLink "GangColumns$Job" (67 : Nat) ({ cls := "java/util/Iterator", name := "next", desc := "()Ljava/lang/Object;" } : Jvm.MethodName)) ∈ lw_all := lw_g (lw_at lw_m7 66 rfl) rfl
theorem q1624 : (Jvm.Cond.fieldLink "GangColumns$Job" (24 : Nat) "GangColumns$Job" "number" "I") ∈ lw_all := lw_g (lw_at lw_m7 67 rfl) rfl
theorem q1625 : (Jvm.Cond.fieldLinkNest "GangColumns$WidestGoing" (23 : Nat) "GangColumns$Job" "number" "I" "GangColumns") ∈ lw_tbl := lw_at lw_m7 68 rfl
theorem q1626 : (Jvm.Cond.fieldLinkNest "GangColumns$ByEnd" (23 : Nat) "GangColumns$Job" "number" "I" "GangColumns") ∈ lw_tbl := lw_at lw_m7 69 rfl
theorem q1627 : (Jvm.Cond.fieldLinkNest "GangColumns$Moves" (70 : Nat) "GangColumns$Job" "number" "I" "GangColumns") ∈ lw_tbl := lw_at lw_m7 70 rfl
theorem q1628 : (Jvm.Cond.fieldLinkNest "GangColumns$Cluster$InLine" (32 : Nat) "GangColumns$Job" "number" "I" "GangColumns") ∈ lw_tbl := lw_at lw_m7 71 rfl
theorem q1629 : (Jvm.Cond.fieldLinkNest "GangColumns$Cluster" (166 : Nat) "GangColumns$Job" "number" "I" "GangColumns") ∈ lw_tbl := lw_at lw_m7 72 rfl
theorem q1630 : (Jvm.Cond.fieldLinkNest "GangColumns$Orders" (74 : Nat) "GangColumns$Job" "number" "I" "GangColumns") ∈ lw_tbl := lw_at lw_m7 73 rfl
theorem q1631 : (Jvm.Cond.fieldLinkNest "GangColumns" (167 : Nat) "GangColumns$Job" "number" "I" "GangColumns") ∈ lw_tbl := lw_at lw_m7 74 rfl
theorem q1632 : (Jvm.Cond.fieldLink "GangColumns$Job" (27 : Nat) "GangColumns$Job" "account" "I") ∈ lw_all := lw_g (lw_at lw_m7 75 rfl) rfl
theorem q1633 : (Jvm.Cond.fieldLinkNest "GangColumns$Cluster$InLine" (25 : Nat) "GangColumns$Job" "account" "I" "GangColumns") ∈ lw_tbl := lw_at lw_m7 76 rfl
theorem q1634 : (Jvm.Cond.fieldLinkNest "GangColumns$Orders" (81 : Nat) "GangColumns$Job" "account" "I" "GangColumns") ∈ lw_tbl := lw_at lw_m7 77 rfl
theorem q1635 : (Jvm.Cond.fieldLinkNest "GangColumns$Moves" (127 : Nat) "GangColumns$Job" "account" "I" "GangColumns") ∈ lw_tbl := lw_at lw_m7 78 rfl
theorem q1636 : (Jvm.Cond.fieldLinkNest "GangColumns$Cluster" (245 : Nat) "GangColumns$Job" "account" "I" "GangColumns") ∈ lw_tbl := lw_at lw_m7 79 rfl
theorem q1637 : (Jvm.Cond.fieldLinkNest "GangColumns" (174 : Nat) "GangColumns$Job" "account" "I" "GangColumns") ∈ lw_tbl := lw_at lw_m7 80 rfl
theorem q1638 : (Jvm.Cond.fieldLink "GangColumns$Job" (33 : Nat) "GangColumns$Job" "part" "I") ∈ lw_all := lw_g (lw_at lw_m7 81 rfl) rfl
theorem q1639 : (Jvm.Cond.fieldLinkNest "GangColumns" (180 : Nat) "GangColumns$Job" "part" "I" "GangColumns") ∈ lw_tbl := lw_at lw_m7 82 rfl
theorem q1640 : (Jvm.Cond.fieldLinkNest "GangColumns$Cluster" (335 : Nat) "GangColumns$Job" "part" "I" "GangColumns") ∈ lw_tbl := lw_at lw_m7 83 rfl
theorem q1641 : (Jvm.Cond.fieldLink "GangColumns$Job" (36 : Nat) "GangColumns$Job" "after" "I") ∈ lw_all := lw_g (lw_at lw_m7 84 rfl) rfl
theorem q1642 : (Jvm.Cond.fieldLinkNest "GangColumns$Cluster" (225 : Nat) "GangColumns$Job" "after" "I" "GangColumns") ∈ lw_tbl := lw_at lw_m7 85 rfl
theorem q1643 : (Jvm.Cond.fieldLinkNest "GangColumns" (183 : Nat) "GangColumns$Job" "after" "I" "GangColumns") ∈ lw_tbl := lw_at lw_m7 86 rfl
theorem q1644 : (Jvm.Cond.fieldLink "GangColumns$Job" (39 : Nat) "GangColumns$Job" "came" "I") ∈ lw_all := lw_g (lw_at lw_m7 87 rfl) rfl
theorem q1645 : (Jvm.Cond.fieldLinkNest "GangColumns$Cluster" (352 : Nat) "GangColumns$Job" "came" "I" "GangColumns") ∈ lw_tbl := lw_at lw_m7 88 rfl
theorem q1646 : (Jvm.Cond.fieldLink "GangColumns$Job" (42 : Nat) "GangColumns$Job" "arms" "[LGangColumns$Arm;") ∈ lw_all := lw_g (lw_at lw_m7 89 rfl) rfl
theorem q1647 : (Jvm.Cond.fieldLinkNest "GangColumns$Orders" (27 : Nat) "GangColumns$Job" "arms" "[LGangColumns$Arm;" "GangColumns") ∈ lw_tbl := lw_at lw_m7 90 rfl
theorem q1648 : (Jvm.Cond.fieldLinkNest "GangColumns$Cluster" (178 : Nat) "GangColumns$Job" "arms" "[LGangColumns$Arm;" "GangColumns") ∈ lw_tbl := lw_at lw_m7 91 rfl
theorem q1649 : (Jvm.Cond.fieldLinkNest "GangColumns" (186 : Nat) "GangColumns$Job" "arms" "[LGangColumns$Arm;" "GangColumns") ∈ lw_tbl := lw_at lw_m7 92 rfl
theorem q1650 : (Jvm.Cond.fieldLink "GangColumns$Job" (48 : Nat) "GangColumns$Job" "widest" "[LGangColumns$Arm;") ∈ lw_all := lw_g (lw_at lw_m7 93 rfl) rfl
theorem q1651 : (Jvm.Cond.fieldLinkNest "GangColumns$Moves" (123 : Nat) "GangColumns$Job" "widest" "[LGangColumns$Arm;" "GangColumns") ∈ lw_tbl := lw_at lw_m7 94 rfl
theorem q1652 : (Jvm.Cond.fieldLinkNest "GangColumns$Cluster" (295 : Nat) "GangColumns$Job" "widest" "[LGangColumns$Arm;" "GangColumns") ∈ lw_tbl := lw_at lw_m7 95 rfl
theorem q1653 : (Jvm.Cond.fieldLink "GangColumns$Job" (30 : Nat) "GangColumns$Job" "rank" "I") ∈ lw_all := lw_g (lw_at lw_m7 96 rfl) rfl
theorem q1654 : (Jvm.Cond.fieldLinkNest "GangColumns$Cluster$InLine" (13 : Nat) "GangColumns$Job" "rank" "I" "GangColumns") ∈ lw_tbl := lw_at lw_m7 97 rfl
theorem q1655 : (Jvm.Cond.fieldLinkNest "GangColumns$1" (17 : Nat) "GangColumns$Job" "rank" "I" "GangColumns") ∈ lw_tbl := lw_at lw_m7 98 rfl
theorem q1656 : (Jvm.Cond.fieldLinkNest "GangColumns" (177 : Nat) "GangColumns$Job" "rank" "I" "GangColumns") ∈ lw_tbl := lw_at lw_m7 99 rfl
theorem q1657 : (Jvm.Cond.fieldLink "GangColumns$Job" (9 : Nat) "GangColumns$Job" "is" "I") ∈ lw_all := lw_g (lw_at lw_m7 100 rfl) rfl
theorem q1658 : (Jvm.Cond.fieldLinkNest "GangColumns$Waiting" (19 : Nat) "GangColumns$Job" "is" "I" "GangColumns") ∈ lw_tbl := lw_at lw_m7 101 rfl
theorem q1659 : (Jvm.Cond.fieldLinkNest "GangColumns$Cluster" (219 : Nat) "GangColumns$Job" "is" "I" "GangColumns") ∈ lw_tbl := lw_at lw_m7 102 rfl
theorem q1660 : (Jvm.Cond.fieldLinkNest "GangColumns" (136 : Nat) "GangColumns$Job" "is" "I" "GangColumns") ∈ lw_tbl := lw_at lw_m7 103 rfl
theorem q1661 : (Jvm.Cond.fieldLinkNest "GangColumns$1Holds" (17 : Nat) "GangColumns$Job" "isBack" "Z" "GangColumns") ∈ lw_tbl := lw_at lw_m7 104 rfl
theorem q1662 : (Jvm.Cond.fieldLinkNest "GangColumns$Cluster" (222 : Nat) "GangColumns$Job" "isBack" "Z" "GangColumns") ∈ lw_tbl := lw_at lw_m7 105 rfl
theorem q1663 : (Jvm.Cond.fieldLink "GangColumns$Job" (124 : Nat) "GangColumns$Job" "isBack" "Z") ∈ lw_all := lw_g (lw_at lw_m7 106 rfl) rfl
theorem q1664 : (Jvm.Cond.fieldLink "GangColumns$Job" (15 : Nat) "GangColumns$Job" "start" "I") ∈ lw_all := lw_g (lw_at lw_m7 107 rfl) rfl
theorem q1665 : (Jvm.Cond.fieldLinkNest "GangColumns$Foresight" (69 : Nat) "GangColumns$Job" "start" "I" "GangColumns") ∈ lw_tbl := lw_at lw_m7 108 rfl
theorem q1666 : (Jvm.Cond.fieldLinkNest "GangColumns" (190 : Nat) "GangColumns$Job" "start" "I" "GangColumns") ∈ lw_tbl := lw_at lw_m7 109 rfl
theorem q1667 : (Jvm.Cond.fieldLinkNest "GangColumns$Cluster" (331 : Nat) "GangColumns$Job" "start" "I" "GangColumns") ∈ lw_tbl := lw_at lw_m7 110 rfl
theorem q1668 : (Jvm.Cond.fieldLink "GangColumns$Job" (18 : Nat) "GangColumns$Job" "ended" "I") ∈ lw_all := lw_g (lw_at lw_m7 111 rfl) rfl
theorem q1669 : (Jvm.Cond.fieldLinkNest "GangColumns" (193 : Nat) "GangColumns$Job" "ended" "I" "GangColumns") ∈ lw_tbl := lw_at lw_m7 112 rfl
theorem q1670 : (Jvm.Cond.fieldLinkNest "GangColumns$Cluster" (408 : Nat) "GangColumns$Job" "ended" "I" "GangColumns") ∈ lw_tbl := lw_at lw_m7 113 rfl
theorem q1671 : (Jvm.Cond.fieldLink "GangColumns$Job" (21 : Nat) "GangColumns$Job" "firstPromise" "I") ∈ lw_all := lw_g (lw_at lw_m7 114 rfl) rfl
theorem q1672 : (Jvm.Cond.fieldLinkNest "GangColumns" (196 : Nat) "GangColumns$Job" "firstPromise" "I" "GangColumns") ∈ lw_tbl := lw_at lw_m7 115 rfl
theorem q1673 : (Jvm.Cond.fieldLinkNest "GangColumns$Cluster" (368 : Nat) "GangColumns$Job" "firstPromise" "I" "GangColumns") ∈ lw_tbl := lw_at lw_m7 116 rfl
theorem q1674 : (Jvm.Cond.laysFinal "GangColumns$Job" "GangColumns$Job" "number" "I") ∈ lw_all := lw_g (lw_at lw_m7 117 rfl) rfl
theorem q1675 : (Jvm.Cond.soleField "GangColumns$Job" "number") ∈ lw_all := lw_g (lw_at lw_m7 118 rfl) rfl
theorem q1676 : (Jvm.Cond.laysFinal "GangColumns$Job" "GangColumns$Job" "account" "I") ∈ lw_all := lw_g (lw_at lw_m7 119 rfl) rfl
theorem q1677 : (Jvm.Cond.soleField "GangColumns$Job" "account") ∈ lw_all := lw_g (lw_at lw_m7 120 rfl) rfl
theorem q1678 : (Jvm.Cond.laysFinal "GangColumns$Job" "GangColumns$Job" "part" "I") ∈ lw_all := lw_g (lw_at lw_m7 121 rfl) rfl
theorem q1679 : (Jvm.Cond.soleField "GangColumns$Job" "part") ∈ lw_all := lw_g (lw_at lw_m7 122 rfl) rfl
theorem q1680 : (Jvm.Cond.laysFinal "GangColumns$Job" "GangColumns$Job" "after" "I") ∈ lw_all := lw_g (lw_at lw_m7 123 rfl) rfl
theorem q1681 : (Jvm.Cond.soleField "GangColumns$Job" "after") ∈ lw_all := lw_g (lw_at lw_m7 124 rfl) rfl
theorem q1682 : (Jvm.Cond.laysFinal "GangColumns$Job" "GangColumns$Job" "came" "I") ∈ lw_all := lw_g (lw_at lw_m7 125 rfl) rfl
theorem q1683 : (Jvm.Cond.soleField "GangColumns$Job" "came") ∈ lw_all := lw_g (lw_at lw_m7 126 rfl) rfl
theorem q1684 : (Jvm.Cond.laysFinal "GangColumns$Job" "GangColumns$Job" "arms" "[LGangColumns$Arm;") ∈ lw_all := lw_g (lw_at lw_m7 127 rfl) rfl
theorem q1685 : (Jvm.Cond.soleField "GangColumns$Job" "arms") ∈ lw_all := lw_g (lw_at lw_m7 128 rfl) rfl
theorem q1686 : (Jvm.Cond.laysFinal "GangColumns$Job" "GangColumns$Job" "widest" "[LGangColumns$Arm;") ∈ lw_all := lw_g (lw_at lw_m7 129 rfl) rfl
theorem q1687 : (Jvm.Cond.soleField "GangColumns$Job" "widest") ∈ lw_all := lw_g (lw_at lw_m7 130 rfl) rfl
theorem q1688 : (Jvm.Cond.lays "GangColumns$Job" "GangColumns$Job" "rank" "I") ∈ lw_all := lw_g (lw_at lw_m7 131 rfl) rfl
theorem q1689 : (Jvm.Cond.soleField "GangColumns$Job" "rank") ∈ lw_all := lw_g (lw_at lw_m7 132 rfl) rfl
theorem q1690 : (Jvm.Cond.lays "GangColumns$Job" "GangColumns$Job" "is" "I") ∈ lw_all := lw_g (lw_at lw_m7 133 rfl) rfl
theorem q1691 : (Jvm.Cond.soleField "GangColumns$Job" "is") ∈ lw_all := lw_g (lw_at lw_m7 134 rfl) rfl
theorem q1692 : (Jvm.Cond.lays "GangColumns$Job" "GangColumns$Job" "isBack" "Z") ∈ lw_all := lw_g (lw_at lw_m7 135 rfl) rfl
theorem q1693 : (Jvm.Cond.soleField "GangColumns$Job" "isBack") ∈ lw_all := lw_g (lw_at lw_m7 136 rfl) rfl
theorem q1694 : (Jvm.Cond.lays "GangColumns$Job" "GangColumns$Job" "start" "I") ∈ lw_all := lw_g (lw_at lw_m7 137 rfl) rfl
theorem q1695 : (Jvm.Cond.soleField "GangColumns$Job" "start") ∈ lw_all := lw_g (lw_at lw_m7 138 rfl) rfl
theorem q1696 : (Jvm.Cond.lays "GangColumns$Job" "GangColumns$Job" "ended" "I") ∈ lw_all := lw_g (lw_at lw_m7 139 rfl) rfl
theorem q1697 : (Jvm.Cond.soleField "GangColumns$Job" "ended") ∈ lw_all := lw_g (lw_at lw_m7 140 rfl) rfl
theorem q1698 : (Jvm.Cond.lays "GangColumns$Job" "GangColumns$Job" "firstPromise" "I") ∈ lw_all := lw_g (lw_at lw_m7 141 rfl) rfl
theorem q1699 : (Jvm.Cond.soleField "GangColumns$Job" "firstPromise") ∈ lw_all := lw_g (lw_at lw_m7 142 rfl) rfl
theorem q1700 : (Jvm.Cond.superclass "GangColumns$Job" "java/lang/Object") ∈ lw_all := lw_g (lw_at lw_m7 143 rfl) rfl
theorem q1701 : (Jvm.Cond.methodLink "GangColumns" (157 : Nat) ({ cls := "java/util/ArrayList", name := "add", desc := "(Ljava/lang/Object;)Z" } : Jvm.MethodName)) ∈ lw_all := lw_g (lw_at lw_m7 144 rfl) rfl
theorem q1702 : (Jvm.Cond.methodLink "GangColumns" (163 : Nat) ({ cls := "GangColumns$Cluster", name := "happens", desc := "(ILGangColumns$Job;)V" } : Jvm.MethodName)) ∈ lw_all := lw_g (lw_at lw_m7 145 rfl) rfl
theorem q1703 : (Jvm.Cond.instanceMethod ({ cls := "GangColumns$Cluster", name := "happens", desc := "(ILGangColumns$Job;)V" } : Jvm.MethodName)) ∈ lw_all := lw_g (lw_at lw_m7 146 rfl) rfl
theorem q1704 : (Jvm.Cond.selects "GangColumns$Cluster" ({ cls := "GangColumns$Cluster", name := "happens", desc := "(ILGangColumns$Job;)V" } : Jvm.MethodName) ({ cls := "GangColumns$Cluster", name := "happens", desc := "(ILGangColumns$Job;)V" } : Jvm.MethodName)) ∈ lw_all := lw_g (lw_at lw_m7 147 rfl) rfl
theorem q1705 : (Jvm.Cond.code ({ cls := "GangColumns$Cluster", name := "happens", desc := "(ILGangColumns$Job;)V" } : Jvm.MethodName) prog_8_method_8_code (3 : Nat) (Option.none : Option Jvm.ClassFile.FieldType)) ∈ lw_all := lw_g (lw_at lw_m7 148 rfl) rfl
theorem q1706 : (Jvm.Cond.methodLink "GangColumns$Cluster" (254 : Nat) ({ cls := "java/util/ArrayList", name := "size", desc := "()I" } : Jvm.MethodName)) ∈ lw_all := lw_g (lw_at lw_m7 149 rfl) rfl
theorem q1707 : (Jvm.Cond.methodLink "GangColumns$Cluster" (257 : Nat) ({ cls := "java/util/ArrayList", name := "remove", desc := "(I)Ljava/lang/Object;" } : Jvm.MethodName)) ∈ lw_all := lw_g (lw_at lw_m7 150 rfl) rfl
theorem q1708 : (Jvm.Cond.instanceMethod ({ cls := "java/util/ArrayList", name := "remove", desc := "(I)Ljava/lang/Object;" } : Jvm.MethodName)) ∈ lw_all := lw_g (lw_at lw_m7 151 rfl) rfl
theorem q1709 : (Jvm.Cond.selects "java/util/ArrayList" ({ cls := "java/util/ArrayList", name := "remove", desc := "(I)Ljava/lang/Object;" } : Jvm.MethodName) ({ cls := "java/util/ArrayList", name := "remove", desc := "(I)Ljava/lang/Object;" } : Jvm.MethodName)) ∈ lw_all := lw_g (lw_at lw_m7 152 rfl) rfl
theorem q1710 : (Jvm.Cond.code ({ cls := "java/util/ArrayList", name := "remove", desc := "(I)Ljava/lang/Object;" } : Jvm.MethodName) prog_61_method_29_code (4 : Nat) (Option.some (Jvm.ClassFile.FieldType.object "java/lang/Object"))) ∈ lw_all := lw_g (lw_at lw_m7 153 rfl) rfl
theorem q1711 : (Jvm.Cond.methodLink "java/util/ArrayList" (144 : Nat) ({ cls := "java/util/ArrayList", name := "fastRemove", desc := "([Ljava/lang/Object;I)V" } : Jvm.MethodName)) ∈ lw_all := lw_g (lw_at lw_m7 154 rfl) rfl
theorem q1712 : (Jvm.Cond.privateMethod ({ cls := "java/util/ArrayList", name := "fastRemove", desc := "([Ljava/lang/Object;I)V" } : Jvm.MethodName)) ∈ lw_tbl := lw_at lw_m7 155 rfl
theorem q1713 : (Jvm.Cond.instanceMethod ({ cls := "java/util/ArrayList", name := "fastRemove", desc := "([Ljava/lang/Object;I)V" } : Jvm.MethodName)) ∈ lw_all := lw_g (lw_at lw_m7 156 rfl) rfl
theorem q1714 : (Jvm.Cond.code ({ cls := "java/util/ArrayList", name := "fastRemove", desc := "([Ljava/lang/Object;I)V" } : Jvm.MethodName) prog_61_method_39_code (4 : Nat) (Option.none : Option Jvm.ClassFile.FieldType)) ∈ lw_all := lw_g (lw_at lw_m7 157 rfl) rfl
theorem q1715 : (Jvm.Cond.methodLink "java/util/ArrayList" (112 : Nat) ({ cls := "java/lang/System", name := "arraycopy", desc := "(Ljava/lang/Object;ILjava/lang/Object;II)V" } : Jvm.MethodName)) ∈ lw_all := lw_g (lw_at lw_m7 158 rfl) rfl
theorem q1716 : (Jvm.Cond.classLink "GangColumns$Cluster" (260 : Nat) "GangColumns$Event") ∈ lw_all := lw_g (lw_at lw_m7 159 rfl) rfl
theorem q1717 : (Jvm.Cond.instantiable "GangColumns$Event" (3 : Nat)) ∈ lw_all := lw_g (lw_at lw_m7 160 rfl) rfl
theorem q1718 : (Jvm.Cond.methodLink "GangColumns$Cluster" (262 : Nat) ({ cls := "GangColumns$Event", name := "<init>", desc := "(III)V" } : Jvm.MethodName)) ∈ lw_all := lw_g (lw_at lw_m7 161 rfl) rfl
theorem q1719 : (Jvm.Cond.instanceMethod ({ cls := "GangColumns$Event", name := "<init>", desc := "(III)V" } : Jvm.MethodName)) ∈ lw_all := lw_g (lw_at lw_m7 162 rfl) rfl
theorem q1720 : (Jvm.Cond.code ({ cls := "GangColumns$Event", name := "<init>", desc := "(III)V" } : Jvm.MethodName) prog_11_method_1_code (4 : Nat) (Option.none : Option Jvm.ClassFile.FieldType)) ∈ lw_all := lw_g (lw_at lw_m7 163 rfl) rfl
theorem q1721 : (Jvm.Cond.methodLink "GangColumns$Event" (1 : Nat) ({ cls := "java/lang/Object", name := "<init>", desc := "()V" } : Jvm.MethodName)) ∈ lw_all := lw_g (lw_at lw_m7 164 rfl) rfl
theorem q1722 : (Jvm.Cond.fieldLink "GangColumns$Event" (7 : Nat) "GangColumns$Event" "tick" "I") ∈ lw_all := lw_g (lw_at lw_m7 165 rfl) rfl
theorem q1723 : (Jvm.Cond.fieldLink "GangColumns$Event" (13 : Nat) "GangColumns$Event" "kind" "I") ∈ lw_all := lw_g (lw_at lw_m7 166 rfl) rfl
theorem q1724 : (Jvm.Cond.fieldLink "GangColumns$Event" (16 : Nat) "GangColumns$Event" "job" "I") ∈ lw_all := lw_g (lw_at lw_m7 167 rfl) rfl
theorem q1725 : (Jvm.Cond.laysFinal "GangColumns$Event" "GangColumns$Event" "tick" "I") ∈ lw_all := lw_g (lw_at lw_m7 168 rfl) rfl
theorem q1726 : (Jvm.Cond.soleField "GangColumns$Event" "tick") ∈ lw_all := lw_g (lw_at lw_m7 169 rfl) rfl
theorem q1727 : (Jvm.Cond.laysFinal "GangColumns$Event" "GangColumns$Event" "kind" "I") ∈ lw_all := lw_g (lw_at lw_m7 170 rfl) rfl
theorem q1728 : (Jvm.Cond.soleField "GangColumns$Event" "kind") ∈ lw_all := lw_g (lw_at lw_m7 171 rfl) rfl
theorem q1729 : (Jvm.Cond.laysFinal "GangColumns$Event" "GangColumns$Event" "job" "I") ∈ lw_all := lw_g (lw_at lw_m7 172 rfl) rfl
theorem q1730 : (Jvm.Cond.soleField "GangColumns$Event" "job") ∈ lw_all := lw_g (lw_at lw_m7 173 rfl) rfl
theorem q1731 : (Jvm.Cond.superclass "GangColumns$Event" "java/lang/Object") ∈ lw_all := lw_g (lw_at lw_m7 174 rfl) rfl
theorem q1732 : (Jvm.Cond.methodLink "GangColumns$Cluster" (140 : Nat) ({ cls := "java/util/ArrayList", name := "add", desc := "(Ljava/lang/Object;)Z" } : Jvm.MethodName)) ∈ lw_all := lw_g (lw_at lw_m7 175 rfl) rfl
theorem q1733 : (Jvm.Cond.methodLink "GangColumnsLaw" (45 : Nat) ({ cls := "GangColumns", name := "off", desc := "(I)I" } : Jvm.MethodName)) ∈ lw_all := lw_g (lw_at lw_m7 176 rfl) rfl
theorem q1734 : (Jvm.Cond.instanceMethod ({ cls := "GangColumns", name := "off", desc := "(I)I" } : Jvm.MethodName)) ∈ lw_all := lw_g (lw_at lw_m7 177 rfl) rfl
theorem q1735 : (Jvm.Cond.selects "GangColumns" ({ cls := "GangColumns", name := "off", desc := "(I)I" } : Jvm.MethodName) ({ cls := "GangColumns", name := "off", desc := "(I)I" } : Jvm.MethodName)) ∈ lw_all := lw_g (lw_at lw_m7 178 rfl) rfl
theorem q1736 : (Jvm.Cond.code ({ cls := "GangColumns", name := "off", desc := "(I)I" } : Jvm.MethodName) prog_1_method_15_code (3 : Nat) (Option.some Jvm.ClassFile.FieldType.int)) ∈ lw_all := lw_g (lw_at lw_m7 179 rfl) rfl
theorem q1737 : (Jvm.Cond.methodLink "GangColumns" (170 : Nat) ({ cls := "GangColumns$Cluster", name := "off", desc := "(LGangColumns$Job;)I" } : Jvm.MethodName)) ∈ lw_all := lw_g (lw_at lw_m7 180 rfl) rfl
theorem q1738 : (Jvm.Cond.instanceMethod ({ cls := "GangColumns$Cluster", name := "off", desc := "(LGangColumns$Job;)I" } : Jvm.MethodName)) ∈ lw_all := lw_g (lw_at lw_m7 181 rfl) rfl
theorem q1739 : (Jvm.Cond.selects "GangColumns$Cluster" ({ cls := "GangColumns$Cluster", name := "off", desc := "(LGangColumns$Job;)I" } : Jvm.MethodName) ({ cls := "GangColumns$Cluster", name := "off", desc := "(LGangColumns$Job;)I" } : Jvm.MethodName)) ∈ lw_all := lw_g (lw_at lw_m7 182 rfl) rfl
theorem q1740 : (Jvm.Cond.code ({ cls := "GangColumns$Cluster", name := "off", desc := "(LGangColumns$Job;)I" } : Jvm.MethodName) prog_8_method_35_code (5 : Nat) (Option.some Jvm.ClassFile.FieldType.int)) ∈ lw_all := lw_g (lw_at lw_m7 183 rfl) rfl
theorem q1741 : (Jvm.Cond.methodLink "GangColumns$Cluster" (462 : Nat) ({ cls := "GangColumns$Cluster", name := "stops", desc := "(LGangColumns$Job;)V" } : Jvm.MethodName)) ∈ lw_all := lw_g (lw_at lw_m7 184 rfl) rfl
theorem q1742 : (Jvm.Cond.privateMethod ({ cls := "GangColumns$Cluster", name := "stops", desc := "(LGangColumns$Job;)V" } : Jvm.MethodName)) ∈ lw_tbl := lw_at lw_m7 185 rfl
theorem q1743 : (Jvm.Cond.instanceMethod ({ cls := "GangColumns$Cluster", name := "stops", desc := "(LGangColumns$Job;)V" } : Jvm.MethodName)) ∈ lw_all := lw_g (lw_at lw_m7 186 rfl) rfl
theorem q1744 : (Jvm.Cond.code ({ cls := "GangColumns$Cluster", name := "stops", desc := "(LGangColumns$Job;)V" } : Jvm.MethodName) prog_8_method_33_code (5 : Nat) (Option.none : Option Jvm.ClassFile.FieldType)) ∈ lw_all := lw_g (lw_at lw_m7 187 rfl) rfl
theorem q1745 : (Jvm.Cond.methodLink "GangColumns$Cluster" (171 : Nat) ({ cls := "java/util/PriorityQueue", name := "iterator", desc := "()Ljava/util/Iterator;" } : Jvm.MethodName)) ∈ lw_all := lw_g (lw_at lw_m7 188 rfl) rfl
theorem q1746 : (Jvm.Cond.interfaceEntry "GangColumns$Cluster" (127 : Nat)) ∈ lw_tbl := lw_at lw_m7 189 rfl
theorem q1747 : (Jvm.Cond.methodLink "GangColumns$Cluster" (127 : Nat) ({ cls := "java/util/Iterator", name := "hasNext", desc := "()Z" } : Jvm.MethodName)) ∈ lw_all := lw_g (lw_at lw_m7 190 rfl) rfl
theorem q1748 : (Jvm.Cond.interfaceEntry "GangColumns$Cluster" (133 : Nat)) ∈ lw_tbl := lw_at lw_m7 191 rfl
theorem q1749 : (Jvm.Cond.methodLink "GangColumns$Cluster" (133 : Nat) ({ cls := "java/util/Iterator", name := "next", desc := "()Ljava/lang/Object;" } : Jvm.MethodName)) ∈ lw_all := lw_g (lw_at lw_m7 192 rfl) rfl
theorem q1750 : (Jvm.Cond.classLink "GangColumns$Cluster" (172 : Nat) "GangColumns$Going") ∈ lw_all := lw_g (lw_at lw_m7 193 rfl) rfl
theorem q1751 : (Jvm.Cond.methodLink "GangColumns$Cluster" (192 : Nat) ({ cls := "java/util/PriorityQueue", name := "add", desc := "(Ljava/lang/Object;)Z" } : Jvm.MethodName)) ∈ lw_all := lw_g (lw_at lw_m7 194 rfl) rfl
theorem q1752 : (Jvm.Cond.instanceMethod ({ cls := "java/util/PriorityQueue", name := "add", desc := "(Ljava/lang/Object;)Z" } : Jvm.MethodName)) ∈ lw_all := lw_g (lw_at lw_m7 195 rfl) rfl
theorem q1753 : (Jvm.Cond.selects "java/util/PriorityQueue" ({ cls := "java/util/PriorityQueue", name := "add", desc := "(Ljava/lang/Object;)Z" } : Jvm.MethodName) ({ cls := "java/util/PriorityQueue", name := "add", desc := "(Ljava/lang/Object;)Z" } : Jvm.MethodName)) ∈ lw_all := lw_g (lw_at lw_m7 196 rfl) rfl
theorem q1754 : (Jvm.Cond.code ({ cls := "java/util/PriorityQueue", name := "add", desc := "(Ljava/lang/Object;)Z" } : Jvm.MethodName) prog_73_method_13_code (2 : Nat) (Option.some Jvm.ClassFile.FieldType.boolean)) ∈ lw_all := lw_g (lw_at lw_m7 197 rfl) rfl
theorem q1755 : (Jvm.Cond.methodLink "java/util/PriorityQueue" (89 : Nat) ({ cls := "java/util/PriorityQueue", name := "offer", desc := "(Ljava/lang/Object;)Z" } : Jvm.MethodName)) ∈ lw_all := lw_g (lw_at lw_m7 198 rfl) rfl
theorem q1756 : (Jvm.Cond.instanceMethod ({ cls := "java/util/PriorityQueue", name := "offer", desc := "(Ljava/lang/Object;)Z" } : Jvm.MethodName)) ∈ lw_all := lw_g (lw_at lw_m7 199 rfl) rfl
theorem q1757 : (Jvm.Cond.selects "java/util/PriorityQueue" ({ cls := "java/util/PriorityQueue", name := "offer", desc := "(Ljava/lang/Object;)Z" } : Jvm.MethodName) ({ cls := "java/util/PriorityQueue", name := "offer", desc := "(Ljava/lang/Object;)Z" } : Jvm.MethodName)) ∈ lw_all := lw_g (lw_at lw_m7 200 rfl) rfl
theorem q1758 : (Jvm.Cond.code ({ cls := "java/util/PriorityQueue", name := "offer", desc := "(Ljava/lang/Object;)Z" } : Jvm.MethodName) prog_73_method_14_code (3 : Nat) (Option.some Jvm.ClassFile.FieldType.boolean)) ∈ lw_all := lw_g (lw_at lw_m7 201 rfl) rfl
theorem q1759 : (Jvm.Cond.methodLink "java/util/PriorityQueue" (96 : Nat) ({ cls := "java/util/PriorityQueue", name := "grow", desc := "(I)V" } : Jvm.MethodName)) ∈ lw_all := lw_g (lw_at lw_m7 202 rfl) rfl
theorem q1760 : (Jvm.Cond.privateMethod ({ cls := "java/util/PriorityQueue", name := "grow", desc := "(I)V" } : Jvm.MethodName)) ∈ lw_tbl := lw_at lw_m7 203 rfl
theorem q1761 : (Jvm.Cond.instanceMethod ({ cls := "java/util/PriorityQueue", name := "grow", desc := "(I)V" } : Jvm.MethodName)) ∈ lw_all := lw_g (lw_at lw_m7 204 rfl) rfl
theorem q1762 : (Jvm.Cond.code ({ cls := "java/util/PriorityQueue", name := "grow", desc := "(I)V" } : Jvm.MethodName) prog_73_method_12_code (4 : Nat) (Option.none : Option Jvm.ClassFile.FieldType)) ∈ lw_all := lw_g (lw_at lw_m7 205 rfl) rfl
theorem q1763 : (Jvm.Cond.methodLink "java/util/PriorityQueue" (80 : Nat) ({ cls := "jdk/internal/util/ArraysSupport", name := "newLength", desc := "(III)I" } : Jvm.MethodName)) ∈ lw_all := lw_g (lw_at lw_m7 206 rfl) rfl
theorem q1764 : (Jvm.Cond.methodLink "java/util/PriorityQueue" (86 : Nat) ({ cls := "java/util/Arrays", name := "copyOf", desc := "([Ljava/lang/Object;I)[Ljava/lang/Object;" } : Jvm.MethodName)) ∈ lw_all := lw_g (lw_at lw_m7 207 rfl) rfl
theorem q1765 : (Jvm.Cond.methodLink "java/util/PriorityQueue" (100 : Nat) ({ cls := "java/util/PriorityQueue", name := "siftUp", desc := "(ILjava/lang/Object;)V" } : Jvm.MethodName)) ∈ lw_all := lw_g (lw_at lw_m7 208 rfl) rfl
theorem q1766 : (Jvm.Cond.privateMethod ({ cls := "java/util/PriorityQueue", name := "siftUp", desc := "(ILjava/lang/Object;)V" } : Jvm.MethodName)) ∈ lw_tbl := lw_at lw_m7 209 rfl
theorem q1767 : (Jvm.Cond.instanceMethod ({ cls := "java/util/PriorityQueue", name := "siftUp", desc := "(ILjava/lang/Object;)V" } : Jvm.MethodName)) ∈ lw_all := lw_g (lw_at lw_m7 210 rfl) rfl
theorem q1768 : (Jvm.Cond.code ({ cls := "java/util/PriorityQueue", name := "siftUp", desc := "(ILjava/lang/Object;)V" } : Jvm.MethodName) prog_73_method_27_code (3 : Nat) (Option.none : Option Jvm.ClassFile.FieldType)) ∈ lw_all := lw_g (lw_at lw_m7 211 rfl) rfl
theorem q1769 : (Jvm.Cond.methodLink "java/util/PriorityQueue" (136 : Nat) ({ cls := "java/util/PriorityQueue", name := "siftUpUsingComparator", desc := "(ILjava/lang/Object;[Ljava/lang/Object;Ljava/util/Comparator;)V" } : Jvm.MethodName)) ∈ lw_all := lw_g (lw_at lw_m7 212 rfl) rfl
theorem q1770 : (Jvm.Cond.static ({ cls := "java/util/PriorityQueue", name := "siftUpUsingComparator", desc := "(ILjava/lang/Object;[Ljava/lang/Object;Ljava/util/Comparator;)V" } : Jvm.MethodName)) ∈ lw_all := lw_g (lw_at lw_m7 213 rfl) rfl
theorem q1771 : (Jvm.Cond.code ({ cls := "java/util/PriorityQueue", name := "siftUpUsingComparator", desc := "(ILjava/lang/Object;[Ljava/lang/Object;Ljava/util/Comparator;)V" } : Jvm.MethodName) prog_73_method_29_code (6 : Nat) (Option.none : Option Jvm.ClassFile.FieldType)) ∈ lw_all := lw_g (lw_at lw_m7 214 rfl) rfl
theorem q1772 : (Jvm.Cond.interfaceEntry "java/util/PriorityQueue" (149 : Nat)) ∈ lw_tbl := lw_at lw_m7 215 rfl
theorem q1773 : (Jvm.Cond.methodLink "java/util/PriorityQueue" (149 : Nat) ({ cls := "java/util/Comparator", name := "compare", desc := "(Ljava/lang/Object;Ljava/lang/Object;)I" } : Jvm.MethodName)) ∈ lw_all := lw_g (lw_at lw_m7 216 rfl) rfl
theorem q1774 : (Jvm.Cond.methodLink "java/util/PriorityQueue" (140 : Nat) ({ cls := "java/util/PriorityQueue", name := "siftUpComparable", desc := "(ILjava/lang/Object;[Ljava/lang/Object;)V" } : Jvm.MethodName)) ∈ lw_all := lw_g (lw_at lw_m7 217 rfl) rfl
theorem q1775 : (Jvm.Cond.static ({ cls := "java/util/PriorityQueue", name := "siftUpComparable", desc := "(ILjava/lang/Object;[Ljava/lang/Object;)V" } : Jvm.MethodName)) ∈ lw_all := lw_g (lw_at lw_m7 218 rfl) rfl
theorem q1776 : (Jvm.Cond.code ({ cls := "java/util/PriorityQueue", name := "siftUpComparable", desc := "(ILjava/lang/Object;[Ljava/lang/Object;)V" } : Jvm.MethodName) prog_73_method_28_code (6 : Nat) (Option.none : Option Jvm.ClassFile.FieldType)) ∈ lw_all := lw_g (lw_at lw_m7 219 rfl) rfl
theorem q1777 : (Jvm.Cond.classLink "java/util/PriorityQueue" (144 : Nat) "java/lang/Comparable") ∈ lw_all := lw_g (lw_at lw_m7 220 rfl) rfl
theorem q1778 : (Jvm.Cond.interfaceEntry "java/util/PriorityQueue" (146 : Nat)) ∈ lw_tbl := lw_at lw_m7 221 rfl
theorem q1779 : (Jvm.Cond.methodLink "java/util/PriorityQueue" (146 : Nat) ({ cls := "java/lang/Comparable", name := "compareTo", desc := "(Ljava/lang/Object;)I" } : Jvm.MethodName)) ∈ lw_all := lw_g (lw_at lw_m7 222 rfl) rfl
theorem q1780 : (Jvm.Cond.methodLink "GangColumns$Cluster" (430 : Nat) ({ cls := "GangColumns$Cluster", name := "lets", desc := "(LGangColumns$Job;LGangColumns$Arm;)V" } : Jvm.MethodName)) ∈ lw_all := lw_g (lw_at lw_m7 223 rfl) rfl
theorem q1781 : (Jvm.Cond.privateMethod ({ cls := "GangColumns$Cluster", name := "lets", desc := "(LGangColumns$Job;LGangColumns$Arm;)V" } : Jvm.MethodName)) ∈ lw_tbl := lw_at lw_m7 224 rfl
theorem q1782 : (Jvm.Cond.instanceMethod ({ cls := "GangColumns$Cluster", name := "lets", desc := "(LGangColumns$Job;LGangColumns$Arm;)V" } : Jvm.MethodName)) ∈ lw_all := lw_g (lw_at lw_m7 225 rfl) rfl
theorem q1783 : (Jvm.Cond.code ({ cls := "GangColumns$Cluster", name := "lets", desc := "(LGangColumns$Job;LGangColumns$Arm;)V" } : Jvm.MethodName) prog_8_method_26_code (4 : Nat) (Option.none : Option Jvm.ClassFile.FieldType)) ∈ lw_all := lw_g (lw_at lw_m7 226 rfl) rfl
theorem q1784 : (Jvm.Cond.static ({ cls := "GangColumns$Cluster", name := "lambda$lets$3", desc := "(LGangColumns$Job;LGangColumns$Hold;)Z" } : Jvm.MethodName)) ∈ lw_all := lw_g (lw_at lw_m7 227 rfl) rfl
theorem q1785 : (Jvm.Cond.code ({ cls := "GangColumns$Cluster", name := "lambda$lets$3", desc := "(LGangColumns$Job;LGangColumns$Hold;)Z" } : Jvm.MethodName) prog_8_method_43_code (2 : Nat) (Option.some Jvm.ClassFile.FieldType.boolean)) ∈ lw_all := lw_g (lw_at lw_m7 228 rfl) rfl
theorem q1786 : (Jvm.Cond.classLink "GangColumns$Cluster" (342 : Nat) "GangColumns$Runs") ∈ lw_all := lw_g (lw_at lw_m7 229 rfl) rfl
theorem q1787 : (Jvm.Cond.methodLink "GangColumns$Cluster" (485 : Nat) ({ cls := "GangColumns$Hold", name := "of", desc := "()I" } : Jvm.MethodName)) ∈ lw_all := lw_g (lw_at lw_m7 230 rfl) rfl
theorem q1788 : (Jvm.Cond.methodLink "GangColumns$Cluster" (327 : Nat) ({ cls := "GangColumns$Column", name := "lets", desc := "(LGangColumns$Matters;)V" } : Jvm.MethodName)) ∈ lw_all := lw_g (lw_at lw_m7 231 rfl) rfl
theorem q1789 : (Jvm.Cond.instanceMethod ({ cls := "GangColumns$Column", name := "lets", desc := "(LGangColumns$Matters;)V" } : Jvm.MethodName)) ∈ lw_all := lw_g (lw_at lw_m7 232 rfl) rfl
theorem q1790 : (Jvm.Cond.selects "GangColumns$Column" ({ cls := "GangColumns$Column", name := "lets", desc := "(LGangColumns$Matters;)V" } : Jvm.MethodName) ({ cls := "GangColumns$Column", name := "lets", desc := "(LGangColumns$Matters;)V" } : Jvm.MethodName)) ∈ lw_all := lw_g (lw_at lw_m7 233 rfl) rfl
theorem q1791 : (Jvm.Cond.code ({ cls := "GangColumns$Column", name := "lets", desc := "(LGangColumns$Matters;)V" } : Jvm.MethodName) prog_10_method_5_code (3 : Nat) (Option.none : Option Jvm.ClassFile.FieldType)) ∈ lw_all := lw_g (lw_at lw_m7 234 rfl) rfl
theorem q1792 : (Jvm.Cond.methodLink "GangColumns$Column" (16 : Nat) ({ cls := "java/util/ArrayList", name := "size", desc := "()I" } : Jvm.MethodName)) ∈ lw_all := lw_g (lw_at lw_m7 235 rfl) rfl
theorem q1793 : (Jvm.Cond.methodLink "GangColumns$Column" (20 : Nat) ({ cls := "java/util/ArrayList", name := "get", desc := "(I)Ljava/lang/Object;" } : Jvm.MethodName)) ∈ lw_all := lw_g (lw_at lw_m7 236 rfl) rfl
theorem q1794 : (Jvm.Cond.classLink "GangColumns$Column" (24 : Nat) "GangColumns$Hold") ∈ lw_all := lw_g (lw_at lw_m7 237 rfl) rfl
theorem q1795 : (Jvm.Cond.interfaceEntry "GangColumns$Column" (38 : Nat)) ∈ lw_tbl := lw_at lw_m7 238 rfl
theorem q1796 : (Jvm.Cond.methodLink "GangColumns$Column" (38 : Nat) ({ cls := "GangColumns$Matters", name := "does", desc := "(LGangColumns$Hold;)Z" } : Jvm.MethodName)) ∈ lw_all := lw_g (lw_at lw_m7 239 rfl) rfl
theorem q1797 : (Jvm.Cond.interfaceMethod "GangColumns$Matters" "GangColumns$Matters" "does" "(LGangColumns$Hold;)Z") ∈ lw_tbl := lw_at lw_m8 0 rfl
theorem q1798 : (Jvm.Cond.declares ({ cls := "GangColumns$Matters", name := "does", desc := "(LGangColumns$Hold;)Z" } : Jvm.MethodName)) ∈ lw_tbl := lw_at lw_m8 1 rfl
theorem q1799 : (Jvm.Cond.methodLink "GangColumns$Column" (58 : Nat) ({ cls := "java/util/ArrayList", name := "remove", desc := "(I)Ljava/lang/Object;" } : Jvm.MethodName)) ∈ lw_all := lw_g (lw_at lw_m8 2 rfl) rfl
theorem q1800 : (Jvm.Cond.methodLink "GangColumns$Cluster" (465 : Nat) ({ cls := "GangColumns$Cluster", name := "forgets", desc := "(LGangColumns$Job;)V" } : Jvm.MethodName)) ∈ lw_all := lw_g (lw_at lw_m8 3 rfl) rfl
theorem q1801 : (Jvm.Cond.privateMethod ({ cls := "GangColumns$Cluster", name := "forgets", desc := "(LGangColumns$Job;)V" } : Jvm.MethodName)) ∈ lw_tbl := lw_at lw_m8 4 rfl
theorem q1802 : (Jvm.Cond.instanceMethod ({ cls := "GangColumns$Cluster", name := "forgets", desc := "(LGangColumns$Job;)V" } : Jvm.MethodName)) ∈ lw_all := lw_g (lw_at lw_m8 5 rfl) rfl
theorem q1803 : (Jvm.Cond.code ({ cls := "GangColumns$Cluster", name := "forgets", desc := "(LGangColumns$Job;)V" } : Jvm.MethodName) prog_8_method_34_code (2 : Nat) (Option.none : Option Jvm.ClassFile.FieldType)) ∈ lw_all := lw_g (lw_at lw_m8 6 rfl) rfl
theorem q1804 : (Jvm.Cond.static ({ cls := "GangColumns$Cluster", name := "lambda$forgets$5", desc := "(LGangColumns$Job;LGangColumns$Hold;)Z" } : Jvm.MethodName)) ∈ lw_all := lw_g (lw_at lw_m8 7 rfl) rfl
theorem q1805 : (Jvm.Cond.code ({ cls := "GangColumns$Cluster", name := "lambda$forgets$5", desc := "(LGangColumns$Job;LGangColumns$Hold;)Z" } : Jvm.MethodName) prog_8_method_41_code (2 : Nat) (Option.some Jvm.ClassFile.FieldType.boolean)) ∈ lw_all := lw_g (lw_at lw_m8 8 rfl) rfl
theorem q1806 : (Jvm.Cond.classLink "GangColumns$Cluster" (359 : Nat) "GangColumns$Promised") ∈ lw_all := lw_g (lw_at lw_m8 9 rfl) rfl
theorem q1807 : (Jvm.Cond.methodLink "GangColumns$Cluster" (374 : Nat) ({ cls := "GangColumns$Cluster", name := "givesUp", desc := "(LGangColumns$Matters;)V" } : Jvm.MethodName)) ∈ lw_all := lw_g (lw_at lw_m8 10 rfl) rfl
theorem q1808 : (Jvm.Cond.privateMethod ({ cls := "GangColumns$Cluster", name := "givesUp", desc := "(LGangColumns$Matters;)V" } : Jvm.MethodName)) ∈ lw_tbl := lw_at lw_m8 11 rfl
theorem q1809 : (Jvm.Cond.instanceMethod ({ cls := "GangColumns$Cluster", name := "givesUp", desc := "(LGangColumns$Matters;)V" } : Jvm.MethodName)) ∈ lw_all := lw_g (lw_at lw_m8 12 rfl) rfl
theorem q1810 : (Jvm.Cond.code ({ cls := "GangColumns$Cluster", name := "givesUp", desc := "(LGangColumns$Matters;)V" } : Jvm.MethodName) prog_8_method_21_code (6 : Nat) (Option.none : Option Jvm.ClassFile.FieldType)) ∈ lw_all := lw_g (lw_at lw_m8 13 rfl) rfl
theorem q1811 : (Jvm.Cond.methodLink "GangColumns$Cluster" (459 : Nat) ({ cls := "GangColumns$Promises", name := "remove", desc := "(I)V" } : Jvm.MethodName)) ∈ lw_all := lw_g (lw_at lw_m8 14 rfl) rfl
theorem q1812 : (Jvm.Cond.instanceMethod ({ cls := "GangColumns$Promises", name := "remove", desc := "(I)V" } : Jvm.MethodName)) ∈ lw_all := lw_g (lw_at lw_m8 15 rfl) rfl
theorem q1813 : (Jvm.Cond.selects "GangColumns$Promises" ({ cls := "GangColumns$Promises", name := "remove", desc := "(I)V" } : Jvm.MethodName) ({ cls := "GangColumns$Promises", name := "remove", desc := "(I)V" } : Jvm.MethodName)) ∈ lw_all := lw_g (lw_at lw_m8 16 rfl) rfl
theorem q1814 : (Jvm.Cond.code ({ cls := "GangColumns$Promises", name := "remove", desc := "(I)V" } : Jvm.MethodName) prog_24_method_4_code (2 : Nat) (Option.none : Option Jvm.ClassFile.FieldType)) ∈ lw_all := lw_g (lw_at lw_m8 17 rfl) rfl
theorem q1815 : (Jvm.Cond.methodLink "GangColumns$Cluster" (348 : Nat) ({ cls := "GangColumns$Cluster", name := "happens", desc := "(ILGangColumns$Job;)V" } : Jvm.MethodName)) ∈ lw_all := lw_g (lw_at lw_m8 18 rfl) rfl
theorem q1816 : (Jvm.Cond.methodLink "GangColumns$Cluster" (123 : Nat) ({ cls := "java/util/ArrayList", name := "iterator", desc := "()Ljava/util/Iterator;" } : Jvm.MethodName)) ∈ lw_all := lw_g (lw_at lw_m8 19 rfl) rfl
theorem q1817 : (Jvm.Cond.methodLink "GangColumns$Cluster" (468 : Nat) ({ cls := "GangColumns$Cluster", name := "off", desc := "(LGangColumns$Job;)I" } : Jvm.MethodName)) ∈ lw_all := lw_g (lw_at lw_m8 20 rfl) rfl
theorem q1818 : (Jvm.Cond.methodLink "GangColumnsLaw" (49 : Nat) ({ cls := "GangColumns", name := "of", desc := "(II)I" } : Jvm.MethodName)) ∈ lw_all := lw_g (lw_at lw_m8 21 rfl) rfl
theorem q1819 : (Jvm.Cond.instanceMethod ({ cls := "GangColumns", name := "of", desc := "(II)I" } : Jvm.MethodName)) ∈ lw_all := lw_g (lw_at lw_m8 22 rfl) rfl
theorem q1820 : (Jvm.Cond.selects "GangColumns" ({ cls := "GangColumns", name := "of", desc := "(II)I" } : Jvm.MethodName) ({ cls := "GangColumns", name := "of", desc := "(II)I" } : Jvm.MethodName)) ∈ lw_all := lw_g (lw_at lw_m8 23 rfl) rfl
theorem q1821 : (Jvm.Cond.code ({ cls := "GangColumns", name := "of", desc := "(II)I" } : Jvm.MethodName) prog_1_method_16_code (4 : Nat) (Option.some Jvm.ClassFile.FieldType.int)) ∈ lw_all := lw_g (lw_at lw_m8 24 rfl) rfl
theorem q1822 : (Jvm.Cond.methodLink "GangColumns" (199 : Nat) ({ cls := "GangColumns", name := "promiseOf", desc := "(LGangColumns$Job;)I" } : Jvm.MethodName)) ∈ lw_all := lw_g (lw_at lw_m8 25 rfl) rfl
theorem q1823 : (Jvm.Cond.privateMethod ({ cls := "GangColumns", name := "promiseOf", desc := "(LGangColumns$Job;)I" } : Jvm.MethodName)) ∈ lw_tbl := lw_at lw_m8 26 rfl
theorem q1824 : (Jvm.Cond.instanceMethod ({ cls := "GangColumns", name := "promiseOf", desc := "(LGangColumns$Job;)I" } : Jvm.MethodName)) ∈ lw_all := lw_g (lw_at lw_m8 27 rfl) rfl
theorem q1825 : (Jvm.Cond.code ({ cls := "GangColumns", name := "promiseOf", desc := "(LGangColumns$Job;)I" } : Jvm.MethodName) prog_1_method_17_code (2 : Nat) (Option.some Jvm.ClassFile.FieldType.int)) ∈ lw_all := lw_g (lw_at lw_m8 28 rfl) rfl
theorem q1826 : (Jvm.Cond.methodLink "GangColumns" (209 : Nat) ({ cls := "GangColumns$Promises", name := "of", desc := "(I)I" } : Jvm.MethodName)) ∈ lw_all := lw_g (lw_at lw_m8 29 rfl) rfl
theorem q1827 : (Jvm.Cond.instanceMethod ({ cls := "GangColumns$Promises", name := "of", desc := "(I)I" } : Jvm.MethodName)) ∈ lw_all := lw_g (lw_at lw_m8 30 rfl) rfl
theorem q1828 : (Jvm.Cond.selects "GangColumns$Promises" ({ cls := "GangColumns$Promises", name := "of", desc := "(I)I" } : Jvm.MethodName) ({ cls := "GangColumns$Promises", name := "of", desc := "(I)I" } : Jvm.MethodName)) ∈ lw_all := lw_g (lw_at lw_m8 31 rfl) rfl
theorem q1829 : (Jvm.Cond.code ({ cls := "GangColumns$Promises", name := "of", desc := "(I)I" } : Jvm.MethodName) prog_24_method_5_code (2 : Nat) (Option.some Jvm.ClassFile.FieldType.int)) ∈ lw_all := lw_g (lw_at lw_m8 32 rfl) rfl
theorem q1830 : (Jvm.Cond.methodLink "GangColumns" (202 : Nat) ({ cls := "GangColumns$Job", name := "columns", desc := "()I" } : Jvm.MethodName)) ∈ lw_all := lw_g (lw_at lw_m8 33 rfl) rfl
theorem q1831 : (Jvm.Cond.instanceMethod ({ cls := "GangColumns$Job", name := "columns", desc := "()I" } : Jvm.MethodName)) ∈ lw_all := lw_g (lw_at lw_m8 34 rfl) rfl
theorem q1832 : (Jvm.Cond.selects "GangColumns$Job" ({ cls := "GangColumns$Job", name := "columns", desc := "()I" } : Jvm.MethodName) ({ cls := "GangColumns$Job", name := "columns", desc := "()I" } : Jvm.MethodName)) ∈ lw_all := lw_g (lw_at lw_m8 35 rfl) rfl
theorem q1833 : (Jvm.Cond.code ({ cls := "GangColumns$Job", name := "columns", desc := "()I" } : Jvm.MethodName) prog_18_method_4_code (6 : Nat) (Option.some Jvm.ClassFile.FieldType.int)) ∈ lw_all := lw_g (lw_at lw_m8 36 rfl) rfl
theorem q1834 : (Jvm.Cond.methodLink "GangColumnsLaw" (53 : Nat) ({ cls := "GangColumns", name := "arm", desc := "(III)I" } : Jvm.MethodName)) ∈ lw_all := lw_g (lw_at lw_m8 37 rfl) rfl
theorem q1835 : (Jvm.Cond.instanceMethod ({ cls := "GangColumns", name := "arm", desc := "(III)I" } : Jvm.MethodName)) ∈ lw_all := lw_g (lw_at lw_m8 38 rfl) rfl
theorem q1836 : (Jvm.Cond.selects "GangColumns" ({ cls := "GangColumns", name := "arm", desc := "(III)I" } : Jvm.MethodName) ({ cls := "GangColumns", name := "arm", desc := "(III)I" } : Jvm.MethodName)) ∈ lw_all := lw_g (lw_at lw_m8 39 rfl) rfl
theorem q1837 : (Jvm.Cond.code ({ cls := "GangColumns", name := "arm", desc := "(III)I" } : Jvm.MethodName) prog_1_method_18_code (6 : Nat) (Option.some Jvm.ClassFile.FieldType.int)) ∈ lw_all := lw_g (lw_at lw_m8 40 rfl) rfl
theorem q1838 : (Jvm.Cond.methodLink "GangColumns" (223 : Nat) ({ cls := "GangColumns$Arm", name := "lasts", desc := "(I)I" } : Jvm.MethodName)) ∈ lw_all := lw_g (lw_at lw_m8 41 rfl) rfl
theorem q1839 : (Jvm.Cond.instanceMethod ({ cls := "GangColumns$Arm", name := "lasts", desc := "(I)I" } : Jvm.MethodName)) ∈ lw_all := lw_g (lw_at lw_m8 42 rfl) rfl
theorem q1840 : (Jvm.Cond.selects "GangColumns$Arm" ({ cls := "GangColumns$Arm", name := "lasts", desc := "(I)I" } : Jvm.MethodName) ({ cls := "GangColumns$Arm", name := "lasts", desc := "(I)I" } : Jvm.MethodName)) ∈ lw_all := lw_g (lw_at lw_m8 43 rfl) rfl
theorem q1841 : (Jvm.Cond.code ({ cls := "GangColumns$Arm", name := "lasts", desc := "(I)I" } : Jvm.MethodName) prog_4_method_2_code (2 : Nat) (Option.some Jvm.ClassFile.FieldType.int)) ∈ lw_all := lw_g (lw_at lw_m8 44 rfl) rfl
theorem q1842 : (Jvm.Cond.methodLink "GangColumns$Arm" (27 : Nat) ({ cls := "java/lang/Math", name := "max", desc := "(II)I" } : Jvm.MethodName)) ∈ lw_all := lw_g (lw_at lw_m8 45 rfl) rfl
theorem q1843 : (Jvm.Cond.methodLink "GangColumns" (226 : Nat) ({ cls := "GangColumns$Arm", name := "hasStarted", desc := "()Z" } : Jvm.MethodName)) ∈ lw_all := lw_g (lw_at lw_m8 46 rfl) rfl
theorem q1844 : (Jvm.Cond.instanceMethod ({ cls := "GangColumns$Arm", name := "hasStarted", desc := "()Z" } : Jvm.MethodName)) ∈ lw_all := lw_g (lw_at lw_m8 47 rfl) rfl
theorem q1845 : (Jvm.Cond.selects "GangColumns$Arm" ({ cls := "GangColumns$Arm", name := "hasStarted", desc := "()Z" } : Jvm.MethodName) ({ cls := "GangColumns$Arm", name := "hasStarted", desc := "()Z" } : Jvm.MethodName)) ∈ lw_all := lw_g (lw_at lw_m8 48 rfl) rfl
theorem q1846 : (Jvm.Cond.code ({ cls := "GangColumns$Arm", name := "hasStarted", desc := "()Z" } : Jvm.MethodName) prog_4_method_3_code (1 : Nat) (Option.some Jvm.ClassFile.FieldType.boolean)) ∈ lw_all := lw_g (lw_at lw_m8 49 rfl) rfl
theorem q1847 : (Jvm.Cond.methodLink "GangColumnsLaw" (58 : Nat) ({ cls := "GangColumns", name := "line", desc := "(I)I" } : Jvm.MethodName)) ∈ lw_all := lw_g (lw_at lw_m8 50 rfl) rfl
theorem q1848 : (Jvm.Cond.instanceMethod ({ cls := "GangColumns", name := "line", desc := "(I)I" } : Jvm.MethodName)) ∈ lw_all := lw_g (lw_at lw_m8 51 rfl) rfl
theorem q1849 : (Jvm.Cond.selects "GangColumns" ({ cls := "GangColumns", name := "line", desc := "(I)I" } : Jvm.MethodName) ({ cls := "GangColumns", name := "line", desc := "(I)I" } : Jvm.MethodName)) ∈ lw_all := lw_g (lw_at lw_m8 52 rfl) rfl
theorem q1850 : (Jvm.Cond.code ({ cls := "GangColumns", name := "line", desc := "(I)I" } : Jvm.MethodName) prog_1_method_20_code (3 : Nat) (Option.some Jvm.ClassFile.FieldType.int)) ∈ lw_all := lw_g (lw_at lw_m8 53 rfl) rfl
theorem q1851 : (Jvm.Cond.methodLink "GangColumns" (238 : Nat) ({ cls := "GangColumns$Cluster", name := "line", desc := "()Ljava/util/TreeSet;" } : Jvm.MethodName)) ∈ lw_all := lw_g (lw_at lw_m8 54 rfl) rfl
theorem q1852 : (Jvm.Cond.instanceMethod ({ cls := "GangColumns$Cluster", name := "line", desc := "()Ljava/util/TreeSet;" } : Jvm.MethodName)) ∈ lw_all := lw_g (lw_at lw_m8 55 rfl) rfl
theorem q1853 : (Jvm.Cond.selects "GangColumns$Cluster" ({ cls := "GangColumns$Cluster", name := "line", desc := "()Ljava/util/TreeSet;" } : Jvm.MethodName) ({ cls := "GangColumns$Cluster", name := "line", desc := "()Ljava/util/TreeSet;" } : Jvm.MethodName)) ∈ lw_all := lw_g (lw_at lw_m8 56 rfl) rfl
theorem q1854 : (Jvm.Cond.code ({ cls := "GangColumns$Cluster", name := "line", desc := "()Ljava/util/TreeSet;" } : Jvm.MethodName) prog_8_method_10_code (4 : Nat) (Option.some (Jvm.ClassFile.FieldType.object "java/util/TreeSet"))) ∈ lw_all := lw_g (lw_at lw_m8 57 rfl) rfl
theorem q1855 : (Jvm.Cond.classLink "GangColumns$Cluster" (276 : Nat) "java/util/TreeSet") ∈ lw_all := lw_g (lw_at lw_m8 58 rfl) rfl
theorem q1856 : (Jvm.Cond.methodLink "GangColumns$Cluster" (278 : Nat) ({ cls := "java/util/TreeSet", name := "<init>", desc := "(Ljava/util/Comparator;)V" } : Jvm.MethodName)) ∈ lw_all := lw_g (lw_at lw_m8 59 rfl) rfl
theorem q1857 : (Jvm.Cond.methodLink "GangColumns$Cluster" (268 : Nat) ({ cls := "GangColumns$Cluster", name := "isReady", desc := "(LGangColumns$Job;)Z" } : Jvm.MethodName)) ∈ lw_all := lw_g (lw_at lw_m8 60 rfl) rfl
theorem q1858 : (Jvm.Cond.privateMethod ({ cls := "GangColumns$Cluster", name := "isReady", desc := "(LGangColumns$Job;)Z" } : Jvm.MethodName)) ∈ lw_tbl := lw_at lw_m8 61 rfl
theorem q1859 : (Jvm.Cond.instanceMethod ({ cls := "GangColumns$Cluster", name := "isReady", desc := "(LGangColumns$Job;)Z" } : Jvm.MethodName)) ∈ lw_all := lw_g (lw_at lw_m8 62 rfl) rfl
theorem q1860 : (Jvm.Cond.code ({ cls := "GangColumns$Cluster", name := "isReady", desc := "(LGangColumns$Job;)Z" } : Jvm.MethodName) prog_8_method_4_code (2 : Nat) (Option.some Jvm.ClassFile.FieldType.boolean)) ∈ lw_all := lw_g (lw_at lw_m8 63 rfl) rfl
theorem q1861 : (Jvm.Cond.methodLink "GangColumns$Cluster" (167 : Nat) ({ cls := "java/util/ArrayList", name := "get", desc := "(I)Ljava/lang/Object;" } : Jvm.MethodName)) ∈ lw_all := lw_g (lw_at lw_m8 64 rfl) rfl
theorem q1862 : (Jvm.Cond.constantLong "GangColumns$Cluster" (228 : Nat) (2 : Int64)) ∈ lw_all := lw_g (lw_at lw_m8 65 rfl) rfl
theorem q1863 : (Jvm.Cond.constantLong "GangColumns$Cluster" (230 : Nat) (3 : Int64)) ∈ lw_all := lw_g (lw_at lw_m8 66 rfl) rfl
theorem q1864 : (Jvm.Cond.methodLinkNest "GangColumns$Cluster" (232 : Nat) ({ cls := "GangColumns", name := "within", desc := "(JJJ)Z" } : Jvm.MethodName) "GangColumns") ∈ lw_tbl := lw_at lw_m8 67 rfl
theorem q1865 : (Jvm.Cond.methodLink "GangColumns$Cluster" (279 : Nat) ({ cls := "java/util/TreeSet", name := "add", desc := "(Ljava/lang/Object;)Z" } : Jvm.MethodName)) ∈ lw_all := lw_g (lw_at lw_m8 68 rfl) rfl
theorem q1866 : (Jvm.Cond.methodLink "GangColumns" (242 : Nat) ({ cls := "java/util/TreeSet", name := "size", desc := "()I" } : Jvm.MethodName)) ∈ lw_all := lw_g (lw_at lw_m8 69 rfl) rfl
theorem q1867 : (Jvm.Cond.instanceMethod ({ cls := "java/util/TreeSet", name := "size", desc := "()I" } : Jvm.MethodName)) ∈ lw_all := lw_g (lw_at lw_m8 70 rfl) rfl
theorem q1868 : (Jvm.Cond.selects "java/util/TreeSet" ({ cls := "java/util/TreeSet", name := "size", desc := "()I" } : Jvm.MethodName) ({ cls := "java/util/TreeSet", name := "size", desc := "()I" } : Jvm.MethodName)) ∈ lw_all := lw_g (lw_at lw_m8 71 rfl) rfl
theorem q1869 : (Jvm.Cond.code ({ cls := "java/util/TreeSet", name := "size", desc := "()I" } : Jvm.MethodName) prog_93_method_9_code (1 : Nat) (Option.some Jvm.ClassFile.FieldType.int)) ∈ lw_all := lw_g (lw_at lw_m8 72 rfl) rfl
theorem q1870 : (Jvm.Cond.interfaceEntry "java/util/TreeSet" (53 : Nat)) ∈ lw_tbl := lw_at lw_m8 73 rfl
theorem q1871 : (Jvm.Cond.publicMethod ({ cls := "java/util/Map", name := "size", desc := "()I" } : Jvm.MethodName)) ∈ lw_tbl := lw_at lw_m8 74 rfl
theorem q1872 : (Jvm.Cond.declares ({ cls := "java/util/Map", name := "size", desc := "()I" } : Jvm.MethodName)) ∈ lw_tbl := lw_at lw_m8 75 rfl
theorem q1873 : (Jvm.Cond.selects "java/util/TreeMap" ({ cls := "java/util/Map", name := "size", desc := "()I" } : Jvm.MethodName) ({ cls := "java/util/TreeMap", name := "size", desc := "()I" } : Jvm.MethodName)) ∈ lw_all := lw_g (lw_at lw_m8 76 rfl) rfl
theorem q1874 : (Jvm.Cond.unhidden "java/util/TreeMap" "size" "()I") ∈ lw_tbl := lw_at lw_m8 77 rfl
theorem q1875 : (Jvm.Cond.instanceMethod ({ cls := "java/util/TreeMap", name := "size", desc := "()I" } : Jvm.MethodName)) ∈ lw_all := lw_g (lw_at lw_m8 78 rfl) rfl
theorem q1876 : (Jvm.Cond.publicMethod ({ cls := "java/util/TreeMap", name := "size", desc := "()I" } : Jvm.MethodName)) ∈ lw_tbl := lw_at lw_m8 79 rfl
theorem q1877 : (Jvm.Cond.code ({ cls := "java/util/TreeMap", name := "size", desc := "()I" } : Jvm.MethodName) prog_83_method_5_code (1 : Nat) (Option.some Jvm.ClassFile.FieldType.int)) ∈ lw_all := lw_g (lw_at lw_m8 80 rfl) rfl
theorem q1878 : (Jvm.Cond.methodLink "GangColumns" (245 : Nat) ({ cls := "GangColumns", name := "numberAt", desc := "(Ljava/lang/Iterable;I)I" } : Jvm.MethodName)) ∈ lw_all := lw_g (lw_at lw_m8 81 rfl) rfl
theorem q1879 : (Jvm.Cond.static ({ cls := "GangColumns", name := "numberAt", desc := "(Ljava/lang/Iterable;I)I" } : Jvm.MethodName)) ∈ lw_all := lw_g (lw_at lw_m8 82 rfl) rfl
theorem q1880 : (Jvm.Cond.code ({ cls := "GangColumns", name := "numberAt", desc := "(Ljava/lang/Iterable;I)I" } : Jvm.MethodName) prog_1_method_19_code (5 : Nat) (Option.some Jvm.ClassFile.FieldType.int)) ∈ lw_all := lw_g (lw_at lw_m8 83 rfl) rfl
theorem q1881 : (Jvm.Cond.interfaceEntry "GangColumns" (235 : Nat)) ∈ lw_tbl := lw_at lw_m8 84 rfl
theorem q1882 : (Jvm.Cond.methodLink "GangColumns" (235 : Nat) ({ cls := "java/lang/Iterable", name := "iterator", desc := "()Ljava/util/Iterator;" } : Jvm.MethodName)) ∈ lw_all := lw_g (lw_at lw_m8 85 rfl) rfl
theorem q1883 : (Jvm.Cond.interfaceMethod "java/lang/Iterable" "java/lang/Iterable" "iterator" "()Ljava/util/Iterator;") ∈ lw_tbl := lw_at lw_m8 86 rfl
theorem q1884 : (Jvm.Cond.declares ({ cls := "java/lang/Iterable", name := "iterator", desc := "()Ljava/util/Iterator;" } : Jvm.MethodName)) ∈ lw_tbl := lw_at lw_m8 87 rfl
theorem q1885 : (Jvm.Cond.castable "GangColumns$FreeRuns" "java/lang/Iterable") ∈ lw_tbl := lw_at lw_m8 88 rfl
theorem q1886 : (Jvm.Cond.selects "GangColumns$FreeRuns" ({ cls := "java/lang/Iterable", name := "iterator", desc := "()Ljava/util/Iterator;" } : Jvm.MethodName) ({ cls := "GangColumns$FreeRuns", name := "iterator", desc := "()Ljava/util/Iterator;" } : Jvm.MethodName)) ∈ lw_all := lw_g (lw_at lw_m8 89 rfl) rfl
theorem q1887 : (Jvm.Cond.unhidden "GangColumns$FreeRuns" "iterator" "()Ljava/util/Iterator;") ∈ lw_tbl := lw_at lw_m8 90 rfl
theorem q1888 : (Jvm.Cond.instanceMethod ({ cls := "GangColumns$FreeRuns", name := "iterator", desc := "()Ljava/util/Iterator;" } : Jvm.MethodName)) ∈ lw_all := lw_g (lw_at lw_m8 91 rfl) rfl
theorem q1889 : (Jvm.Cond.publicMethod ({ cls := "GangColumns$FreeRuns", name := "iterator", desc := "()Ljava/util/Iterator;" } : Jvm.MethodName)) ∈ lw_tbl := lw_at lw_m8 92 rfl
theorem q1890 : (Jvm.Cond.code ({ cls := "GangColumns$FreeRuns", name := "iterator", desc := "()Ljava/util/Iterator;" } : Jvm.MethodName) prog_14_method_2_code (1 : Nat) (Option.some (Jvm.ClassFile.FieldType.object "java/util/Iterator"))) ∈ lw_all := lw_g (lw_at lw_m8 93 rfl) rfl
theorem q1891 : (Jvm.Cond.classLink "GangColumns$FreeRuns" (13 : Nat) "GangColumns$FreeRuns$1") ∈ lw_all := lw_g (lw_at lw_m8 94 rfl) rfl
theorem q1892 : (Jvm.Cond.methodLink "GangColumns$FreeRuns" (15 : Nat) ({ cls := "GangColumns$FreeRuns$1", name := "<init>", desc := "(LGangColumns$FreeRuns;)V" } : Jvm.MethodName)) ∈ lw_all := lw_g (lw_at lw_m8 95 rfl) rfl
theorem q1893 : (Jvm.Cond.instanceMethod ({ cls := "GangColumns$FreeRuns$1", name := "<init>", desc := "(LGangColumns$FreeRuns;)V" } : Jvm.MethodName)) ∈ lw_all := lw_g (lw_at lw_m8 96 rfl) rfl
theorem q1894 : (Jvm.Cond.code ({ cls := "GangColumns$FreeRuns$1", name := "<init>", desc := "(LGangColumns$FreeRuns;)V" } : Jvm.MethodName) prog_15_method_1_code (2 : Nat) (Option.none : Option Jvm.ClassFile.FieldType)) ∈ lw_all := lw_g (lw_at lw_m8 97 rfl) rfl
theorem q1895 : (Jvm.Cond.methodLink "GangColumns$FreeRuns$1" (9 : Nat) ({ cls := "java/lang/Object", name := "<init>", desc := "()V" } : Jvm.MethodName)) ∈ lw_all := lw_g (lw_at lw_m8 98 rfl) rfl
theorem q1896 : (Jvm.Cond.fieldLink "GangColumns$FreeRuns$1" (19 : Nat) "GangColumns$FreeRuns$1" "at" "I") ∈ lw_all := lw_g (lw_at lw_m8 99 rfl) rfl
theorem q1897 : (Jvm.Cond.fieldLink "GangColumns$FreeRuns$1" (3 : Nat) "GangColumns$FreeRuns$1" "this$0" "LGangColumns$FreeRuns;") ∈ lw_all := lw_g (lw_at lw_m8 100 rfl) rfl
theorem q1898 : (Jvm.Cond.lays "GangColumns$FreeRuns$1" "GangColumns$FreeRuns$1" "at" "I") ∈ lw_all := lw_g (lw_at lw_m8 101 rfl) rfl
theorem q1899 : (Jvm.Cond.soleField "GangColumns$FreeRuns$1" "at") ∈ lw_all := lw_g (lw_at lw_m8 102 rfl) rfl
theorem q1900 : (Jvm.Cond.laysFinal "GangColumns$FreeRuns$1" "GangColumns$FreeRuns$1" "this$0" "LGangColumns$FreeRuns;") ∈ lw_all := lw_g (lw_at lw_m8 103 rfl) rfl
theorem q1901 : (Jvm.Cond.soleField "GangColumns$FreeRuns$1" "this$0") ∈ lw_all := lw_g (lw_at lw_m8 104 rfl) rfl
theorem q1902 : (Jvm.Cond.superclass "GangColumns$FreeRuns$1" "java/lang/Object") ∈ lw_all := lw_g (lw_at lw_m8 105 rfl) rfl
theorem q1903 : (Jvm.Cond.castable "java/util/ArrayList" "java/lang/Iterable") ∈ lw_tbl := lw_at lw_m8 106 rfl
theorem q1904 : (Jvm.Cond.selects "java/util/ArrayList" ({ cls := "java/lang/Iterable", name := "iterator", desc := "()Ljava/util/Iterator;" } : Jvm.MethodName) ({ cls := "java/util/ArrayList", name := "iterator", desc := "()Ljava/util/Iterator;" } : Jvm.MethodName)) ∈ lw_all := lw_g (lw_at lw_m8 107 rfl) rfl
theorem q1905 : (Jvm.Cond.castable "java/util/PriorityQueue" "java/lang/Iterable") ∈ lw_tbl := lw_at lw_m8 108 rfl
theorem q1906 : (Jvm.Cond.selects "java/util/PriorityQueue" ({ cls := "java/lang/Iterable", name := "iterator", desc := "()Ljava/util/Iterator;" } : Jvm.MethodName) ({ cls := "java/util/PriorityQueue", name := "iterator", desc := "()Ljava/util/Iterator;" } : Jvm.MethodName)) ∈ lw_all := lw_g (lw_at lw_m8 109 rfl) rfl
theorem q1907 : (Jvm.Cond.castable "java/util/TreeMap$EntrySet" "java/lang/Iterable") ∈ lw_tbl := lw_at lw_m8 110 rfl
theorem q1908 : (Jvm.Cond.selects "java/util/TreeMap$EntrySet" ({ cls := "java/lang/Iterable", name := "iterator", desc := "()Ljava/util/Iterator;" } : Jvm.MethodName) ({ cls := "java/util/TreeMap$EntrySet", name := "iterator", desc := "()Ljava/util/Iterator;" } : Jvm.MethodName)) ∈ lw_all := lw_g (lw_at lw_m8 111 rfl) rfl
theorem q1909 : (Jvm.Cond.castable "java/util/TreeMap$KeySet" "java/lang/Iterable") ∈ lw_tbl := lw_at lw_m8 112 rfl
theorem q1910 : (Jvm.Cond.selects "java/util/TreeMap$KeySet" ({ cls := "java/lang/Iterable", name := "iterator", desc := "()Ljava/util/Iterator;" } : Jvm.MethodName) ({ cls := "java/util/TreeMap$KeySet", name := "iterator", desc := "()Ljava/util/Iterator;" } : Jvm.MethodName)) ∈ lw_all := lw_g (lw_at lw_m8 113 rfl) rfl
theorem q1911 : (Jvm.Cond.castable "java/util/TreeMap$Values" "java/lang/Iterable") ∈ lw_tbl := lw_at lw_m8 114 rfl
theorem q1912 : (Jvm.Cond.selects "java/util/TreeMap$Values" ({ cls := "java/lang/Iterable", name := "iterator", desc := "()Ljava/util/Iterator;" } : Jvm.MethodName) ({ cls := "java/util/TreeMap$Values", name := "iterator", desc := "()Ljava/util/Iterator;" } : Jvm.MethodName)) ∈ lw_all := lw_g (lw_at lw_m8 115 rfl) rfl
theorem q1913 : (Jvm.Cond.castable "java/util/TreeSet" "java/lang/Iterable") ∈ lw_tbl := lw_at lw_m8 116 rfl
theorem q1914 : (Jvm.Cond.selects "java/util/TreeSet" ({ cls := "java/lang/Iterable", name := "iterator", desc := "()Ljava/util/Iterator;" } : Jvm.MethodName) ({ cls := "java/util/TreeSet", name := "iterator", desc := "()Ljava/util/Iterator;" } : Jvm.MethodName)) ∈ lw_all := lw_g (lw_at lw_m8 117 rfl) rfl
theorem q1915 : (Jvm.Cond.methodLink "GangColumnsLaw" (62 : Nat) ({ cls := "GangColumns", name := "rank", desc := "(II)I" } : Jvm.MethodName)) ∈ lw_all := lw_g (lw_at lw_m8 118 rfl) rfl
theorem q1916 : (Jvm.Cond.instanceMethod ({ cls := "GangColumns", name := "rank", desc := "(II)I" } : Jvm.MethodName)) ∈ lw_all := lw_g (lw_at lw_m8 119 rfl) rfl
theorem q1917 : (Jvm.Cond.selects "GangColumns" ({ cls := "GangColumns", name := "rank", desc := "(II)I" } : Jvm.MethodName) ({ cls := "GangColumns", name := "rank", desc := "(II)I" } : Jvm.MethodName)) ∈ lw_all := lw_g (lw_at lw_m8 120 rfl) rfl
theorem q1918 : (Jvm.Cond.code ({ cls := "GangColumns", name := "rank", desc := "(II)I" } : Jvm.MethodName) prog_1_method_21_code (3 : Nat) (Option.some Jvm.ClassFile.FieldType.int)) ∈ lw_all := lw_g (lw_at lw_m8 121 rfl) rfl
theorem q1919 : (Jvm.Cond.classLink "GangColumns" (249 : Nat) "GangColumns$1") ∈ lw_all := lw_g (lw_at lw_m8 122 rfl) rfl
theorem q1920 : (Jvm.Cond.instantiable "GangColumns$1" (3 : Nat)) ∈ lw_all := lw_g (lw_at lw_m8 123 rfl) rfl
theorem q1921 : (Jvm.Cond.methodLink "GangColumns" (251 : Nat) ({ cls := "GangColumns$1", name := "<init>", desc := "(LGangColumns;I)V" } : Jvm.MethodName)) ∈ lw_all := lw_g (lw_at lw_m8 124 rfl) rfl
theorem q1922 : (Jvm.Cond.instanceMethod ({ cls := "GangColumns$1", name := "<init>", desc := "(LGangColumns;I)V" } : Jvm.MethodName)) ∈ lw_all := lw_g (lw_at lw_m8 125 rfl) rfl
theorem q1923 : (Jvm.Cond.code ({ cls := "GangColumns$1", name := "<init>", desc := "(LGangColumns;I)V" } : Jvm.MethodName) prog_2_method_1_code (3 : Nat) (Option.none : Option Jvm.ClassFile.FieldType)) ∈ lw_all := lw_g (lw_at lw_m8 126 rfl) rfl
theorem q1924 : (Jvm.Cond.methodLinkNest "GangColumns$1" (11 : Nat) ({ cls := "GangColumns$Waiting", name := "<init>", desc := "(LGangColumns;)V" } : Jvm.MethodName) "GangColumns") ∈ lw_tbl := lw_at lw_m8 127 rfl
theorem q1925 : (Jvm.Cond.instanceMethod ({ cls := "GangColumns$Waiting", name := "<init>", desc := "(LGangColumns;)V" } : Jvm.MethodName)) ∈ lw_all := lw_g (lw_at lw_m8 128 rfl) rfl
theorem q1926 : (Jvm.Cond.code ({ cls := "GangColumns$Waiting", name := "<init>", desc := "(LGangColumns;)V" } : Jvm.MethodName) prog_30_method_1_code (2 : Nat) (Option.none : Option Jvm.ClassFile.FieldType)) ∈ lw_all := lw_g (lw_at lw_m8 129 rfl) rfl
theorem q1927 : (Jvm.Cond.methodLink "GangColumns$Waiting" (9 : Nat) ({ cls := "java/lang/Object", name := "<init>", desc := "()V" } : Jvm.MethodName)) ∈ lw_all := lw_g (lw_at lw_m8 130 rfl) rfl
theorem q1928 : (Jvm.Cond.fieldLink "GangColumns$1" (7 : Nat) "GangColumns$1" "val$r" "I") ∈ lw_all := lw_g (lw_at lw_m8 131 rfl) rfl
theorem q1929 : (Jvm.Cond.fieldLink "GangColumns$1" (1 : Nat) "GangColumns$1" "this$0" "LGangColumns;") ∈ lw_all := lw_g (lw_at lw_m8 132 rfl) rfl
theorem q1930 : (Jvm.Cond.fieldLink "GangColumns$Waiting" (3 : Nat) "GangColumns$Waiting" "this$0" "LGangColumns;") ∈ lw_all := lw_g (lw_at lw_m8 133 rfl) rfl
theorem q1931 : (Jvm.Cond.laysFinal "GangColumns$1" "GangColumns$1" "val$r" "I") ∈ lw_all := lw_g (lw_at lw_m8 134 rfl) rfl
theorem q1932 : (Jvm.Cond.soleField "GangColumns$1" "val$r") ∈ lw_all := lw_g (lw_at lw_m8 135 rfl) rfl
theorem q1933 : (Jvm.Cond.laysFinal "GangColumns$1" "GangColumns$1" "this$0" "LGangColumns;") ∈ lw_all := lw_g (lw_at lw_m8 136 rfl) rfl
theorem q1934 : (Jvm.Cond.soleField "GangColumns$1" "this$0") ∈ lw_all := lw_g (lw_at lw_m8 137 rfl) rfl
theorem q1935 : (Jvm.Cond.laysFinal "GangColumns$1" "GangColumns$Waiting" "this$0" "LGangColumns;") ∈ lw_all := lw_g (lw_at lw_m8 138 rfl) rfl
theorem q1936 : (Jvm.Cond.soleField "GangColumns$Waiting" "this$0") ∈ lw_all := lw_g (lw_at lw_m8 139 rfl) rfl
theorem q1937 : (Jvm.Cond.superclass "GangColumns$1" "GangColumns$Waiting") ∈ lw_all := lw_g (lw_at lw_m8 140 rfl) rfl
theorem q1938 : (Jvm.Cond.methodLink "GangColumns" (254 : Nat) ({ cls := "GangColumns$1", name := "does", desc := "(I)I" } : Jvm.MethodName)) ∈ lw_all := lw_g (lw_at lw_m8 141 rfl) rfl
theorem q1939 : (Jvm.Cond.sameMethod "GangColumns$1" "GangColumns$Waiting" "does" "(I)I") ∈ lw_all := lw_g (lw_at lw_m8 142 rfl) rfl
theorem q1940 : (Jvm.Cond.declares ({ cls := "GangColumns$Waiting", name := "does", desc := "(I)I" } : Jvm.MethodName)) ∈ lw_tbl := lw_at lw_m8 143 rfl
theorem q1941 : (Jvm.Cond.selects "GangColumns$1" ({ cls := "GangColumns$1", name := "does", desc := "(I)I" } : Jvm.MethodName) ({ cls := "GangColumns$Waiting", name := "does", desc := "(I)I" } : Jvm.MethodName)) ∈ lw_all := lw_g (lw_at lw_m8 144 rfl) rfl
theorem q1942 : (Jvm.Cond.instanceMethod ({ cls := "GangColumns$Waiting", name := "does", desc := "(I)I" } : Jvm.MethodName)) ∈ lw_all := lw_g (lw_at lw_m8 145 rfl) rfl
theorem q1943 : (Jvm.Cond.code ({ cls := "GangColumns$Waiting", name := "does", desc := "(I)I" } : Jvm.MethodName) prog_30_method_3_code (3 : Nat) (Option.some Jvm.ClassFile.FieldType.int)) ∈ lw_all := lw_g (lw_at lw_m8 146 rfl) rfl
theorem q1944 : (Jvm.Cond.methodLinkNest "GangColumns$Waiting" (15 : Nat) ({ cls := "GangColumns", name := "jobAt", desc := "(I)LGangColumns$Job;" } : Jvm.MethodName) "GangColumns") ∈ lw_tbl := lw_at lw_m8 147 rfl
theorem q1945 : (Jvm.Cond.methodLink "GangColumns$Waiting" (25 : Nat) ({ cls := "GangColumns$Waiting", name := "with", desc := "(LGangColumns$Job;)I" } : Jvm.MethodName)) ∈ lw_all := lw_g (lw_at lw_m8 148 rfl) rfl
theorem q1946 : (Jvm.Cond.declares ({ cls := "GangColumns$Waiting", name := "with", desc := "(LGangColumns$Job;)I" } : Jvm.MethodName)) ∈ lw_tbl := lw_at lw_m8 149 rfl
theorem q1947 : (Jvm.Cond.sameMethod "GangColumns$Waiting" "GangColumns$Waiting" "with" "(LGangColumns$Job;)I") ∈ lw_all := lw_g (lw_at lw_m8 150 rfl) rfl
theorem q1948 : (Jvm.Cond.selects "GangColumns$1" ({ cls := "GangColumns$Waiting", name := "with", desc := "(LGangColumns$Job;)I" } : Jvm.MethodName) ({ cls := "GangColumns$1", name := "with", desc := "(LGangColumns$Job;)I" } : Jvm.MethodName)) ∈ lw_all := lw_g (lw_at lw_m8 151 rfl) rfl
theorem q1949 : (Jvm.Cond.instanceMethod ({ cls := "GangColumns$1", name := "with", desc := "(LGangColumns$Job;)I" } : Jvm.MethodName)) ∈ lw_all := lw_g (lw_at lw_m8 152 rfl) rfl
theorem q1950 : (Jvm.Cond.code ({ cls := "GangColumns$1", name := "with", desc := "(LGangColumns$Job;)I" } : Jvm.MethodName) prog_2_method_2_code (3 : Nat) (Option.some Jvm.ClassFile.FieldType.int)) ∈ lw_all := lw_g (lw_at lw_m8 153 rfl) rfl
theorem q1951 : (Jvm.Cond.selects "GangColumns$1Holds" ({ cls := "GangColumns$Waiting", name := "with", desc := "(LGangColumns$Job;)I" } : Jvm.MethodName) ({ cls := "GangColumns$1Holds", name := "with", desc := "(LGangColumns$Job;)I" } : Jvm.MethodName)) ∈ lw_all := lw_g (lw_at lw_m8 154 rfl) rfl
theorem q1952 : (Jvm.Cond.instanceMethod ({ cls := "GangColumns$1Holds", name := "with", desc := "(LGangColumns$Job;)I" } : Jvm.MethodName)) ∈ lw_all := lw_g (lw_at lw_m8 155 rfl) rfl
theorem q1953 : (Jvm.Cond.code ({ cls := "GangColumns$1Holds", name := "with", desc := "(LGangColumns$Job;)I" } : Jvm.MethodName) prog_3_method_2_code (3 : Nat) (Option.some Jvm.ClassFile.FieldType.int)) ∈ lw_all := lw_g (lw_at lw_m8 156 rfl) rfl
theorem q1954 : (Jvm.Cond.methodLinkNest "GangColumns$1Holds" (29 : Nat) ({ cls := "GangColumns$Cluster", name := "forgets", desc := "(LGangColumns$Job;)V" } : Jvm.MethodName) "GangColumns") ∈ lw_tbl := lw_at lw_m8 157 rfl
theorem q1955 : (Jvm.Cond.methodLink "GangColumnsLaw" (66 : Nat) ({ cls := "GangColumns", name := "hold", desc := "(II)I" } : Jvm.MethodName)) ∈ lw_all := lw_g (lw_at lw_m8 158 rfl) rfl
theorem q1956 : (Jvm.Cond.instanceMethod ({ cls := "GangColumns", name := "hold", desc := "(II)I" } : Jvm.MethodName)) ∈ lw_all := lw_g (lw_at lw_m8 159 rfl) rfl
theorem q1957 : (Jvm.Cond.selects "GangColumns" ({ cls := "GangColumns", name := "hold", desc := "(II)I" } : Jvm.MethodName) ({ cls := "GangColumns", name := "hold", desc := "(II)I" } : Jvm.MethodName)) ∈ lw_all := lw_g (lw_at lw_m8 160 rfl) rfl
theorem q1958 : (Jvm.Cond.code ({ cls := "GangColumns", name := "hold", desc := "(II)I" } : Jvm.MethodName) prog_1_method_22_code (3 : Nat) (Option.some Jvm.ClassFile.FieldType.int)) ∈ lw_all := lw_g (lw_at lw_m8 161 rfl) rfl
theorem q1959 : (Jvm.Cond.classLink "GangColumns" (257 : Nat) "GangColumns$1Holds") ∈ lw_all := lw_g (lw_at lw_m8 162 rfl) rfl
theorem q1960 : (Jvm.Cond.instantiable "GangColumns$1Holds" (3 : Nat)) ∈ lw_all := lw_g (lw_at lw_m8 163 rfl) rfl
theorem q1961 : (Jvm.Cond.methodLink "GangColumns" (259 : Nat) ({ cls := "GangColumns$1Holds", name := "<init>", desc := "(LGangColumns;I)V" } : Jvm.MethodName)) ∈ lw_all := lw_g (lw_at lw_m8 164 rfl) rfl
theorem q1962 : (Jvm.Cond.instanceMethod ({ cls := "GangColumns$1Holds", name := "<init>", desc := "(LGangColumns;I)V" } : Jvm.MethodName)) ∈ lw_all := lw_g (lw_at lw_m8 165 rfl) rfl
theorem q1963 : (Jvm.Cond.code ({ cls := "GangColumns$1Holds", name := "<init>", desc := "(LGangColumns;I)V" } : Jvm.MethodName) prog_3_method_1_code (3 : Nat) (Option.none : Option Jvm.ClassFile.FieldType)) ∈ lw_all := lw_g (lw_at lw_m8 166 rfl) rfl
theorem q1964 : (Jvm.Cond.methodLinkNest "GangColumns$1Holds" (11 : Nat) ({ cls := "GangColumns$Waiting", name := "<init>", desc := "(LGangColumns;)V" } : Jvm.MethodName) "GangColumns") ∈ lw_tbl := lw_at lw_m8 167 rfl
theorem q1965 : (Jvm.Cond.fieldLink "GangColumns$1Holds" (7 : Nat) "GangColumns$1Holds" "val$back" "I") ∈ lw_all := lw_g (lw_at lw_m8 168 rfl) rfl
theorem q1966 : (Jvm.Cond.fieldLink "GangColumns$1Holds" (1 : Nat) "GangColumns$1Holds" "this$0" "LGangColumns;") ∈ lw_all := lw_g (lw_at lw_m8 169 rfl) rfl
theorem q1967 : (Jvm.Cond.laysFinal "GangColumns$1Holds" "GangColumns$1Holds" "val$back" "I") ∈ lw_all := lw_g (lw_at lw_m8 170 rfl) rfl
theorem q1968 : (Jvm.Cond.soleField "GangColumns$1Holds" "val$back") ∈ lw_all := lw_g (lw_at lw_m8 171 rfl) rfl
theorem q1969 : (Jvm.Cond.laysFinal "GangColumns$1Holds" "GangColumns$1Holds" "this$0" "LGangColumns;") ∈ lw_all := lw_g (lw_at lw_m8 172 rfl) rfl
theorem q1970 : (Jvm.Cond.soleField "GangColumns$1Holds" "this$0") ∈ lw_all := lw_g (lw_at lw_m8 173 rfl) rfl
theorem q1971 : (Jvm.Cond.laysFinal "GangColumns$1Holds" "GangColumns$Waiting" "this$0" "LGangColumns;") ∈ lw_all := lw_g (lw_at lw_m8 174 rfl) rfl
theorem q1972 : (Jvm.Cond.superclass "GangColumns$1Holds" "GangColumns$Waiting") ∈ lw_all := lw_g (lw_at lw_m8 175 rfl) rfl
theorem q1973 : (Jvm.Cond.methodLink "GangColumns" (260 : Nat) ({ cls := "GangColumns$1Holds", name := "does", desc := "(I)I" } : Jvm.MethodName)) ∈ lw_all := lw_g (lw_at lw_m8 176 rfl) rfl
theorem q1974 : (Jvm.Cond.sameMethod "GangColumns$1Holds" "GangColumns$Waiting" "does" "(I)I") ∈ lw_all := lw_g (lw_at lw_m8 177 rfl) rfl
theorem q1975 : (Jvm.Cond.selects "GangColumns$1Holds" ({ cls := "GangColumns$1Holds", name := "does", desc := "(I)I" } : Jvm.MethodName) ({ cls := "GangColumns$Waiting", name := "does", desc := "(I)I" } : Jvm.MethodName)) ∈ lw_all := lw_g (lw_at lw_m8 178 rfl) rfl
theorem q1976 : (Jvm.Cond.methodLink "GangColumnsLaw" (70 : Nat) ({ cls := "GangColumns", name := "text", desc := "(II)I" } : Jvm.MethodName)) ∈ lw_all := lw_g (lw_at lw_m8 179 rfl) rfl
theorem q1977 : (Jvm.Cond.instanceMethod ({ cls := "GangColumns", name := "text", desc := "(II)I" } : Jvm.MethodName)) ∈ lw_all := lw_g (lw_at lw_m8 180 rfl) rfl
theorem q1978 : (Jvm.Cond.selects "GangColumns" ({ cls := "GangColumns", name := "text", desc := "(II)I" } : Jvm.MethodName) ({ cls := "GangColumns", name := "text", desc := "(II)I" } : Jvm.MethodName)) ∈ lw_all := lw_g (lw_at lw_m8 181 rfl) rfl
theorem q1979 : (Jvm.Cond.code ({ cls := "GangColumns", name := "text", desc := "(II)I" } : Jvm.MethodName) prog_1_method_23_code (5 : Nat) (Option.some Jvm.ClassFile.FieldType.int)) ∈ lw_all := lw_g (lw_at lw_m8 182 rfl) rfl
theorem q1980 : (Jvm.Cond.methodLink "GangColumns" (261 : Nat) ({ cls := "GangColumns$Job", name := "text", desc := "()Ljava/lang/String;" } : Jvm.MethodName)) ∈ lw_all := lw_g (lw_at lw_m8 183 rfl) rfl
theorem q1981 : (Jvm.Cond.instanceMethod ({ cls := "GangColumns$Job", name := "text", desc := "()Ljava/lang/String;" } : Jvm.MethodName)) ∈ lw_all := lw_g (lw_at lw_m8 184 rfl) rfl
theorem q1982 : (Jvm.Cond.selects "GangColumns$Job" ({ cls := "GangColumns$Job", name := "text", desc := "()Ljava/lang/String;" } : Jvm.MethodName) ({ cls := "GangColumns$Job", name := "text", desc := "()Ljava/lang/String;" } : Jvm.MethodName)) ∈ lw_all := lw_g (lw_at lw_m8 185 rfl) rfl
theorem q1983 : (Jvm.Cond.code ({ cls := "GangColumns$Job", name := "text", desc := "()Ljava/lang/String;" } : Jvm.MethodName) prog_18_method_5_code (3 : Nat) (Option.some (Jvm.ClassFile.FieldType.object "java/lang/String"))) ∈ lw_all := lw_g (lw_at lw_m8 186 rfl) rfl
theorem q1984 : (Jvm.Cond.classLink "GangColumns$Job" (87 : Nat) "java/lang/StringBuilder") ∈ lw_all := lw_g (lw_at lw_m8 187 rfl) rfl
theorem q1985 : (Jvm.Cond.instantiable "java/lang/StringBuilder" (4 : Nat)) ∈ lw_all := lw_g (lw_at lw_m8 188 rfl) rfl
theorem q1986 : (Jvm.Cond.methodLink "GangColumns$Job" (89 : Nat) ({ cls := "java/lang/StringBuilder", name := "<init>", desc := "()V" } : Jvm.MethodName)) ∈ lw_all := lw_g (lw_at lw_m8 189 rfl) rfl
theorem q1987 : (Jvm.Cond.instanceMethod ({ cls := "java/lang/StringBuilder", name := "<init>", desc := "()V" } : Jvm.MethodName)) ∈ lw_all := lw_g (lw_at lw_m8 190 rfl) rfl
theorem q1988 : (Jvm.Cond.code ({ cls := "java/lang/StringBuilder", name := "<init>", desc := "()V" } : Jvm.MethodName) prog_48_method_1_code (1 : Nat) (Option.none : Option Jvm.ClassFile.FieldType)) ∈ lw_all := lw_g (lw_at lw_m8 191 rfl) rfl
theorem q1989 : (Jvm.Cond.methodLink "java/lang/StringBuilder" (1 : Nat) ({ cls := "java/lang/AbstractStringBuilder", name := "<init>", desc := "(I)V" } : Jvm.MethodName)) ∈ lw_all := lw_g (lw_at lw_m8 192 rfl) rfl
theorem q1990 : (Jvm.Cond.instanceMethod ({ cls := "java/lang/AbstractStringBuilder", name := "<init>", desc := "(I)V" } : Jvm.MethodName)) ∈ lw_all := lw_g (lw_at lw_m8 193 rfl) rfl
theorem q1991 : (Jvm.Cond.code ({ cls := "java/lang/AbstractStringBuilder", name := "<init>", desc := "(I)V" } : Jvm.MethodName) prog_35_method_2_code (2 : Nat) (Option.none : Option Jvm.ClassFile.FieldType)) ∈ lw_all := lw_g (lw_at lw_m8 194 rfl) rfl
theorem q1992 : (Jvm.Cond.methodLink "java/lang/AbstractStringBuilder" (3 : Nat) ({ cls := "java/lang/Object", name := "<init>", desc := "()V" } : Jvm.MethodName)) ∈ lw_all := lw_g (lw_at lw_m8 195 rfl) rfl
theorem q1993 : (Jvm.Cond.methodLink "java/lang/AbstractStringBuilder" (26 : Nat) ({ cls := "java/lang/StringUTF16", name := "newBytesFor", desc := "(I)[B" } : Jvm.MethodName)) ∈ lw_all := lw_g (lw_at lw_m8 196 rfl) rfl
theorem q1994 : (Jvm.Cond.static ({ cls := "java/lang/StringUTF16", name := "newBytesFor", desc := "(I)[B" } : Jvm.MethodName)) ∈ lw_all := lw_g (lw_at lw_m8 197 rfl) rfl
theorem q1995 : (Jvm.Cond.code ({ cls := "java/lang/StringUTF16", name := "newBytesFor", desc := "(I)[B" } : Jvm.MethodName) prog_50_method_2_code (1 : Nat) (Option.some (Jvm.ClassFile.FieldType.array Jvm.ClassFile.FieldType.byte))) ∈ lw_all := lw_g (lw_at lw_m8 198 rfl) rfl
theorem q1996 : (Jvm.Cond.methodLink "java/lang/StringUTF16" (11 : Nat) ({ cls := "java/lang/StringUTF16", name := "newBytesLength", desc := "(I)I" } : Jvm.MethodName)) ∈ lw_all := lw_g (lw_at lw_m8 199 rfl) rfl
theorem q1997 : (Jvm.Cond.static ({ cls := "java/lang/StringUTF16", name := "newBytesLength", desc := "(I)I" } : Jvm.MethodName)) ∈ lw_all := lw_g (lw_at lw_m8 200 rfl) rfl
theorem q1998 : (Jvm.Cond.code ({ cls := "java/lang/StringUTF16", name := "newBytesLength", desc := "(I)I" } : Jvm.MethodName) prog_50_method_3_code (1 : Nat) (Option.some Jvm.ClassFile.FieldType.int)) ∈ lw_all := lw_g (lw_at lw_m8 201 rfl) rfl
theorem q1999 : (Jvm.Cond.constant "java/lang/StringUTF16" (20 : Nat) (1073741823 : Int32)) ∈ lw_all := lw_g (lw_at lw_m8 202 rfl) rfl
theorem q2000 : (Jvm.Cond.fieldLink "java/lang/AbstractStringBuilder" (15 : Nat) "java/lang/AbstractStringBuilder" "value" "[B") ∈ lw_all := lw_g (lw_at lw_m8 203 rfl) rfl
theorem q2001 : (Jvm.Cond.fieldLink "java/lang/AbstractStringBuilder" (22 : Nat) "java/lang/AbstractStringBuilder" "coder" "B") ∈ lw_all := lw_g (lw_at lw_m8 204 rfl) rfl
theorem q2002 : (Jvm.Cond.fieldLink "java/lang/String" (1048 : Nat) "java/lang/AbstractStringBuilder" "maybeLatin1" "Z") ∈ lw_all := lw_g (lw_at lw_m8 205 rfl) rfl
theorem q2003 : (Jvm.Cond.fieldLink "java/lang/AbstractStringBuilder" (79 : Nat) "java/lang/AbstractStringBuilder" "count" "I") ∈ lw_all := lw_g (lw_at lw_m8 206 rfl) rfl
theorem q2004 : (Jvm.Cond.lays "java/lang/StringBuilder" "java/lang/AbstractStringBuilder" "value" "[B") ∈ lw_all := lw_g (lw_at lw_m8 207 rfl) rfl
theorem q2005 : (Jvm.Cond.soleField "java/lang/AbstractStringBuilder" "value") ∈ lw_all := lw_g (lw_at lw_m8 208 rfl) rfl
theorem q2006 : (Jvm.Cond.lays "java/lang/StringBuilder" "java/lang/AbstractStringBuilder" "coder" "B") ∈ lw_all := lw_g (lw_at lw_m8 209 rfl) rfl
theorem q2007 : (Jvm.Cond.soleField "java/lang/AbstractStringBuilder" "coder") ∈ lw_all := lw_g (lw_at lw_m8 210 rfl) rfl
theorem q2008 : (Jvm.Cond.lays "java/lang/StringBuilder" "java/lang/AbstractStringBuilder" "maybeLatin1" "Z") ∈ lw_all := lw_g (lw_at lw_m8 211 rfl) rfl
theorem q2009 : (Jvm.Cond.soleField "java/lang/AbstractStringBuilder" "maybeLatin1") ∈ lw_all := lw_g (lw_at lw_m8 212 rfl) rfl
theorem q2010 : (Jvm.Cond.lays "java/lang/StringBuilder" "java/lang/AbstractStringBuilder" "count" "I") ∈ lw_all := lw_g (lw_at lw_m8 213 rfl) rfl
theorem q2011 : (Jvm.Cond.soleField "java/lang/AbstractStringBuilder" "count") ∈ lw_all := lw_g (lw_at lw_m8 214 rfl) rfl
theorem q2012 : (Jvm.Cond.methodLink "GangColumns$Job" (90 : Nat) ({ cls := "java/lang/StringBuilder", name := "append", desc := "(I)Ljava/lang/StringBuilder;" } : Jvm.MethodName)) ∈ lw_all := lw_g (lw_at lw_m8 215 rfl) rfl
theorem q2013 : (Jvm.Cond.instanceMethod ({ cls := "java/lang/StringBuilder", name := "append", desc := "(I)Ljava/lang/StringBuilder;" } : Jvm.MethodName)) ∈ lw_all := lw_g (lw_at lw_m8 216 rfl) rfl
theorem q2014 : (Jvm.Cond.selects "java/lang/StringBuilder" ({ cls := "java/lang/StringBuilder", name := "append", desc := "(I)Ljava/lang/StringBuilder;" } : Jvm.MethodName) ({ cls := "java/lang/StringBuilder", name := "append", desc := "(I)Ljava/lang/StringBuilder;" } : Jvm.MethodName)) ∈ lw_all := lw_g (lw_at lw_m8 217 rfl) rfl
theorem q2015 : (Jvm.Cond.code ({ cls := "java/lang/StringBuilder", name := "append", desc := "(I)Ljava/lang/StringBuilder;" } : Jvm.MethodName) prog_48_method_15_code (2 : Nat) (Option.some (Jvm.ClassFile.FieldType.object "java/lang/StringBuilder"))) ∈ lw_all := lw_g (lw_at lw_m8 218 rfl) rfl
theorem q2016 : (Jvm.Cond.methodLink "java/lang/StringBuilder" (53 : Nat) ({ cls := "java/lang/AbstractStringBuilder", name := "append", desc := "(I)Ljava/lang/AbstractStringBuilder;" } : Jvm.MethodName)) ∈ lw_all := lw_g (lw_at lw_m8 219 rfl) rfl
theorem q2017 : (Jvm.Cond.instanceMethod ({ cls := "java/lang/AbstractStringBuilder", name := "append", desc := "(I)Ljava/lang/AbstractStringBuilder;" } : Jvm.MethodName)) ∈ lw_all := lw_g (lw_at lw_m8 220 rfl) rfl
theorem q2018 : (Jvm.Cond.code ({ cls := "java/lang/AbstractStringBuilder", name := "append", desc := "(I)Ljava/lang/AbstractStringBuilder;" } : Jvm.MethodName) prog_35_method_32_code (4 : Nat) (Option.some (Jvm.ClassFile.FieldType.object "java/lang/AbstractStringBuilder"))) ∈ lw_all := lw_g (lw_at lw_m8 221 rfl) rfl
theorem q2019 : (Jvm.Cond.methodLink "java/lang/AbstractStringBuilder" (245 : Nat) ({ cls := "java/lang/Integer", name := "stringSize", desc := "(I)I" } : Jvm.MethodName)) ∈ lw_all := lw_g (lw_at lw_m8 222 rfl) rfl
theorem q2020 : (Jvm.Cond.static ({ cls := "java/lang/Integer", name := "stringSize", desc := "(I)I" } : Jvm.MethodName)) ∈ lw_all := lw_g (lw_at lw_m8 223 rfl) rfl
theorem q2021 : (Jvm.Cond.code ({ cls := "java/lang/Integer", name := "stringSize", desc := "(I)I" } : Jvm.MethodName) prog_41_method_13_code (4 : Nat) (Option.some Jvm.ClassFile.FieldType.int)) ∈ lw_all := lw_g (lw_at lw_m8 224 rfl) rfl
theorem q2022 : (Jvm.Cond.methodLink "java/lang/AbstractStringBuilder" (100 : Nat) ({ cls := "java/lang/AbstractStringBuilder", name := "ensureCapacityInternal", desc := "(I)V" } : Jvm.MethodName)) ∈ lw_all := lw_g (lw_at lw_m8 225 rfl) rfl
theorem q2023 : (Jvm.Cond.privateMethod ({ cls := "java/lang/AbstractStringBuilder", name := "ensureCapacityInternal", desc := "(I)V" } : Jvm.MethodName)) ∈ lw_tbl := lw_at lw_m8 226 rfl
theorem q2024 : (Jvm.Cond.instanceMethod ({ cls := "java/lang/AbstractStringBuilder", name := "ensureCapacityInternal", desc := "(I)V" } : Jvm.MethodName)) ∈ lw_all := lw_g (lw_at lw_m8 227 rfl) rfl
theorem q2025 : (Jvm.Cond.code ({ cls := "java/lang/AbstractStringBuilder", name := "ensureCapacityInternal", desc := "(I)V" } : Jvm.MethodName) prog_35_method_9_code (3 : Nat) (Option.none : Option Jvm.ClassFile.FieldType)) ∈ lw_all := lw_g (lw_at lw_m8 228 rfl) rfl
theorem q2026 : (Jvm.Cond.methodLink "java/lang/AbstractStringBuilder" (104 : Nat) ({ cls := "java/lang/AbstractStringBuilder", name := "newCapacity", desc := "(I)I" } : Jvm.MethodName)) ∈ lw_all := lw_g (lw_at lw_m8 229 rfl) rfl
theorem q2027 : (Jvm.Cond.privateMethod ({ cls := "java/lang/AbstractStringBuilder", name := "newCapacity", desc := "(I)I" } : Jvm.MethodName)) ∈ lw_tbl := lw_at lw_m8 230 rfl
theorem q2028 : (Jvm.Cond.instanceMethod ({ cls := "java/lang/AbstractStringBuilder", name := "newCapacity", desc := "(I)I" } : Jvm.MethodName)) ∈ lw_all := lw_g (lw_at lw_m8 231 rfl) rfl
theorem q2029 : (Jvm.Cond.code ({ cls := "java/lang/AbstractStringBuilder", name := "newCapacity", desc := "(I)I" } : Jvm.MethodName) prog_35_method_10_code (6 : Nat) (Option.some Jvm.ClassFile.FieldType.int)) ∈ lw_all := lw_g (lw_at lw_m8 232 rfl) rfl
theorem q2030 : (Jvm.Cond.methodLink "java/lang/AbstractStringBuilder" (114 : Nat) ({ cls := "jdk/internal/util/ArraysSupport", name := "newLength", desc := "(III)I" } : Jvm.MethodName)) ∈ lw_all := lw_g (lw_at lw_m8 233 rfl) rfl
theorem q2031 : (Jvm.Cond.constant "java/lang/AbstractStringBuilder" (39 : Nat) (2147483647 : Int32)) ∈ lw_all := lw_g (lw_at lw_m8 234 rfl) rfl
theorem q2032 : (Jvm.Cond.methodLink "java/lang/AbstractStringBuilder" (108 : Nat) ({ cls := "java/util/Arrays", name := "copyOf", desc := "([BI)[B" } : Jvm.MethodName)) ∈ lw_all := lw_g (lw_at lw_m8 235 rfl) rfl
theorem q2033 : (Jvm.Cond.static ({ cls := "java/util/Arrays", name := "copyOf", desc := "([BI)[B" } : Jvm.MethodName)) ∈ lw_all := lw_g (lw_at lw_m8 236 rfl) rfl
theorem q2034 : (Jvm.Cond.code ({ cls := "java/util/Arrays", name := "copyOf", desc := "([BI)[B" } : Jvm.MethodName) prog_63_method_121_code (3 : Nat) (Option.some (Jvm.ClassFile.FieldType.array Jvm.ClassFile.FieldType.byte))) ∈ lw_all := lw_g (lw_at lw_m8 237 rfl) rfl
theorem q2035 : (Jvm.Cond.methodLink "java/util/Arrays" (310 : Nat) ({ cls := "[B", name := "clone", desc := "()Ljava/lang/Object;" } : Jvm.MethodName)) ∈ lw_all := lw_g (lw_at lw_m8 238 rfl) rfl
theorem q2036 : (Jvm.Cond.sameMethod "[B" "java/lang/Object" "clone" "()Ljava/lang/Object;") ∈ lw_all := lw_g (lw_at lw_m8 239 rfl) rfl
theorem q2037 : (Jvm.Cond.native ({ cls := "java/lang/Object", name := "clone", desc := "()Ljava/lang/Object;" } : Jvm.MethodName)) ∈ lw_all := lw_g (lw_at lw_m9 0 rfl) rfl
theorem q2038 : (Jvm.Cond.instanceMethod ({ cls := "java/lang/Object", name := "clone", desc := "()Ljava/lang/Object;" } : Jvm.MethodName)) ∈ lw_all := lw_g (lw_at lw_m9 1 rfl) rfl
theorem q2039 : (Jvm.Cond.selects "[B" ({ cls := "[B", name := "clone", desc := "()Ljava/lang/Object;" } : Jvm.MethodName) ({ cls := "java/lang/Object", name := "clone", desc := "()Ljava/lang/Object;" } : Jvm.MethodName)) ∈ lw_all := lw_g (lw_at lw_m9 2 rfl) rfl
theorem q2040 : (Jvm.Cond.castable "[B" "java/lang/Cloneable") ∈ lw_tbl := lw_at lw_m9 3 rfl
theorem q2041 : (Jvm.Cond.classLink "java/util/Arrays" (311 : Nat) "[B") ∈ lw_all := lw_g (lw_at lw_m9 4 rfl) rfl
theorem q2042 : (Jvm.Cond.methodLink "java/lang/AbstractStringBuilder" (248 : Nat) ({ cls := "java/lang/Integer", name := "getChars", desc := "(II[B)I" } : Jvm.MethodName)) ∈ lw_all := lw_g (lw_at lw_m9 5 rfl) rfl
theorem q2043 : (Jvm.Cond.static ({ cls := "java/lang/Integer", name := "getChars", desc := "(II[B)I" } : Jvm.MethodName)) ∈ lw_all := lw_g (lw_at lw_m9 6 rfl) rfl
theorem q2044 : (Jvm.Cond.code ({ cls := "java/lang/Integer", name := "getChars", desc := "(II[B)I" } : Jvm.MethodName) prog_41_method_12_code (7 : Nat) (Option.some Jvm.ClassFile.FieldType.int)) ∈ lw_all := lw_g (lw_at lw_m9 7 rfl) rfl
theorem q2045 : (Jvm.Cond.fieldLink "java/lang/Integer" (83 : Nat) "java/lang/Integer" "DigitOnes" "[B") ∈ lw_all := lw_g (lw_at lw_m9 8 rfl) rfl
theorem q2046 : (Jvm.Cond.laysStatic "java/lang/Integer" "DigitOnes" "[B") ∈ lw_tbl := lw_at lw_m9 9 rfl
theorem q2047 : (Jvm.Cond.fieldLink "java/lang/Integer" (87 : Nat) "java/lang/Integer" "DigitTens" "[B") ∈ lw_all := lw_g (lw_at lw_m9 10 rfl) rfl
theorem q2048 : (Jvm.Cond.laysStatic "java/lang/Integer" "DigitTens" "[B") ∈ lw_tbl := lw_at lw_m9 11 rfl
theorem q2049 : (Jvm.Cond.methodLink "java/lang/AbstractStringBuilder" (251 : Nat) ({ cls := "java/lang/StringUTF16", name := "getChars", desc := "(III[B)I" } : Jvm.MethodName)) ∈ lw_all := lw_g (lw_at lw_m9 12 rfl) rfl
theorem q2050 : (Jvm.Cond.static ({ cls := "java/lang/StringUTF16", name := "getChars", desc := "(III[B)I" } : Jvm.MethodName)) ∈ lw_all := lw_g (lw_at lw_m9 13 rfl) rfl
theorem q2051 : (Jvm.Cond.code ({ cls := "java/lang/StringUTF16", name := "getChars", desc := "(III[B)I" } : Jvm.MethodName) prog_50_method_77_code (5 : Nat) (Option.some Jvm.ClassFile.FieldType.int)) ∈ lw_all := lw_g (lw_at lw_m9 14 rfl) rfl
theorem q2052 : (Jvm.Cond.methodLink "java/lang/StringUTF16" (96 : Nat) ({ cls := "java/lang/StringUTF16", name := "checkBoundsBeginEnd", desc := "(II[B)V" } : Jvm.MethodName)) ∈ lw_all := lw_g (lw_at lw_m9 15 rfl) rfl
theorem q2053 : (Jvm.Cond.static ({ cls := "java/lang/StringUTF16", name := "checkBoundsBeginEnd", desc := "(II[B)V" } : Jvm.MethodName)) ∈ lw_all := lw_g (lw_at lw_m9 16 rfl) rfl
theorem q2054 : (Jvm.Cond.code ({ cls := "java/lang/StringUTF16", name := "checkBoundsBeginEnd", desc := "(II[B)V" } : Jvm.MethodName) prog_50_method_93_code (3 : Nat) (Option.none : Option Jvm.ClassFile.FieldType)) ∈ lw_all := lw_g (lw_at lw_m9 17 rfl) rfl
theorem q2055 : (Jvm.Cond.methodLink "java/lang/StringUTF16" (241 : Nat) ({ cls := "java/lang/String", name := "checkBoundsBeginEnd", desc := "(III)V" } : Jvm.MethodName)) ∈ lw_all := lw_g (lw_at lw_m9 18 rfl) rfl
theorem q2056 : (Jvm.Cond.static ({ cls := "java/lang/String", name := "checkBoundsBeginEnd", desc := "(III)V" } : Jvm.MethodName)) ∈ lw_all := lw_g (lw_at lw_m9 19 rfl) rfl
theorem q2057 : (Jvm.Cond.code ({ cls := "java/lang/String", name := "checkBoundsBeginEnd", desc := "(III)V" } : Jvm.MethodName) prog_47_method_158_code (3 : Nat) (Option.none : Option Jvm.ClassFile.FieldType)) ∈ lw_all := lw_g (lw_at lw_m9 20 rfl) rfl
theorem q2058 : (Jvm.Cond.methodLink "java/lang/StringUTF16" (393 : Nat) ({ cls := "java/lang/StringUTF16", name := "getChars", desc := "(II[B)I" } : Jvm.MethodName)) ∈ lw_all := lw_g (lw_at lw_m9 21 rfl) rfl
theorem q2059 : (Jvm.Cond.static ({ cls := "java/lang/StringUTF16", name := "getChars", desc := "(II[B)I" } : Jvm.MethodName)) ∈ lw_all := lw_g (lw_at lw_m9 22 rfl) rfl
theorem q2060 : (Jvm.Cond.code ({ cls := "java/lang/StringUTF16", name := "getChars", desc := "(II[B)I" } : Jvm.MethodName) prog_50_method_89_code (7 : Nat) (Option.some Jvm.ClassFile.FieldType.int)) ∈ lw_all := lw_g (lw_at lw_m9 23 rfl) rfl
theorem q2061 : (Jvm.Cond.fieldLink "java/lang/StringUTF16" (403 : Nat) "java/lang/Integer" "DigitOnes" "[B") ∈ lw_all := lw_g (lw_at lw_m9 24 rfl) rfl
theorem q2062 : (Jvm.Cond.methodLink "java/lang/StringUTF16" (111 : Nat) ({ cls := "java/lang/StringUTF16", name := "putChar", desc := "([BII)V" } : Jvm.MethodName)) ∈ lw_all := lw_g (lw_at lw_m9 25 rfl) rfl
theorem q2063 : (Jvm.Cond.static ({ cls := "java/lang/StringUTF16", name := "putChar", desc := "([BII)V" } : Jvm.MethodName)) ∈ lw_all := lw_g (lw_at lw_m9 26 rfl) rfl
theorem q2064 : (Jvm.Cond.code ({ cls := "java/lang/StringUTF16", name := "putChar", desc := "([BII)V" } : Jvm.MethodName) prog_50_method_4_code (3 : Nat) (Option.none : Option Jvm.ClassFile.FieldType)) ∈ lw_all := lw_g (lw_at lw_m9 27 rfl) rfl
theorem q2065 : (Jvm.Cond.fieldLink "java/lang/StringUTF16" (407 : Nat) "java/lang/Integer" "DigitTens" "[B") ∈ lw_all := lw_g (lw_at lw_m9 28 rfl) rfl
theorem q2066 : (Jvm.Cond.stringRef "GangColumns$Job" (94 : Nat) ":a") ∈ lw_tbl := lw_at lw_m9 29 rfl
theorem q2067 : (Jvm.Cond.methodLink "GangColumns$Job" (96 : Nat) ({ cls := "java/lang/StringBuilder", name := "append", desc := "(Ljava/lang/String;)Ljava/lang/StringBuilder;" } : Jvm.MethodName)) ∈ lw_all := lw_g (lw_at lw_m9 30 rfl) rfl
theorem q2068 : (Jvm.Cond.instanceMethod ({ cls := "java/lang/StringBuilder", name := "append", desc := "(Ljava/lang/String;)Ljava/lang/StringBuilder;" } : Jvm.MethodName)) ∈ lw_all := lw_g (lw_at lw_m9 31 rfl) rfl
theorem q2069 : (Jvm.Cond.selects "java/lang/StringBuilder" ({ cls := "java/lang/StringBuilder", name := "append", desc := "(Ljava/lang/String;)Ljava/lang/StringBuilder;" } : Jvm.MethodName) ({ cls := "java/lang/StringBuilder", name := "append", desc := "(Ljava/lang/String;)Ljava/lang/StringBuilder;" } : Jvm.MethodName)) ∈ lw_all := lw_g (lw_at lw_m9 32 rfl) rfl
theorem q2070 : (Jvm.Cond.code ({ cls := "java/lang/StringBuilder", name := "append", desc := "(Ljava/lang/String;)Ljava/lang/StringBuilder;" } : Jvm.MethodName) prog_48_method_7_code (2 : Nat) (Option.some (Jvm.ClassFile.FieldType.object "java/lang/StringBuilder"))) ∈ lw_all := lw_g (lw_at lw_m9 33 rfl) rfl
theorem q2071 : (Jvm.Cond.methodLink "java/lang/StringBuilder" (29 : Nat) ({ cls := "java/lang/AbstractStringBuilder", name := "append", desc := "(Ljava/lang/String;)Ljava/lang/AbstractStringBuilder;" } : Jvm.MethodName)) ∈ lw_all := lw_g (lw_at lw_m9 34 rfl) rfl
theorem q2072 : (Jvm.Cond.instanceMethod ({ cls := "java/lang/AbstractStringBuilder", name := "append", desc := "(Ljava/lang/String;)Ljava/lang/AbstractStringBuilder;" } : Jvm.MethodName)) ∈ lw_all := lw_g (lw_at lw_m9 35 rfl) rfl
theorem q2073 : (Jvm.Cond.code ({ cls := "java/lang/AbstractStringBuilder", name := "append", desc := "(Ljava/lang/String;)Ljava/lang/AbstractStringBuilder;" } : Jvm.MethodName) prog_35_method_22_code (3 : Nat) (Option.some (Jvm.ClassFile.FieldType.object "java/lang/AbstractStringBuilder"))) ∈ lw_all := lw_g (lw_at lw_m9 36 rfl) rfl
theorem q2074 : (Jvm.Cond.methodLink "java/lang/AbstractStringBuilder" (204 : Nat) ({ cls := "java/lang/AbstractStringBuilder", name := "appendNull", desc := "()Ljava/lang/AbstractStringBuilder;" } : Jvm.MethodName)) ∈ lw_all := lw_g (lw_at lw_m9 37 rfl) rfl
theorem q2075 : (Jvm.Cond.privateMethod ({ cls := "java/lang/AbstractStringBuilder", name := "appendNull", desc := "()Ljava/lang/AbstractStringBuilder;" } : Jvm.MethodName)) ∈ lw_tbl := lw_at lw_m9 38 rfl
theorem q2076 : (Jvm.Cond.instanceMethod ({ cls := "java/lang/AbstractStringBuilder", name := "appendNull", desc := "()Ljava/lang/AbstractStringBuilder;" } : Jvm.MethodName)) ∈ lw_all := lw_g (lw_at lw_m9 39 rfl) rfl
theorem q2077 : (Jvm.Cond.code ({ cls := "java/lang/AbstractStringBuilder", name := "appendNull", desc := "()Ljava/lang/AbstractStringBuilder;" } : Jvm.MethodName) prog_35_method_26_code (3 : Nat) (Option.some (Jvm.ClassFile.FieldType.object "java/lang/AbstractStringBuilder"))) ∈ lw_all := lw_g (lw_at lw_m9 40 rfl) rfl
theorem q2078 : (Jvm.Cond.methodLink "java/lang/AbstractStringBuilder" (226 : Nat) ({ cls := "java/lang/StringUTF16", name := "putCharsAt", desc := "([BICCCC)I" } : Jvm.MethodName)) ∈ lw_all := lw_g (lw_at lw_m9 41 rfl) rfl
theorem q2079 : (Jvm.Cond.static ({ cls := "java/lang/StringUTF16", name := "putCharsAt", desc := "([BICCCC)I" } : Jvm.MethodName)) ∈ lw_all := lw_g (lw_at lw_m9 42 rfl) rfl
theorem q2080 : (Jvm.Cond.code ({ cls := "java/lang/StringUTF16", name := "putCharsAt", desc := "([BICCCC)I" } : Jvm.MethodName) prog_50_method_81_code (7 : Nat) (Option.some Jvm.ClassFile.FieldType.int)) ∈ lw_all := lw_g (lw_at lw_m9 43 rfl) rfl
theorem q2081 : (Jvm.Cond.methodLink "java/lang/AbstractStringBuilder" (32 : Nat) ({ cls := "java/lang/String", name := "length", desc := "()I" } : Jvm.MethodName)) ∈ lw_all := lw_g (lw_at lw_m9 44 rfl) rfl
theorem q2082 : (Jvm.Cond.instanceMethod ({ cls := "java/lang/String", name := "length", desc := "()I" } : Jvm.MethodName)) ∈ lw_all := lw_g (lw_at lw_m9 45 rfl) rfl
theorem q2083 : (Jvm.Cond.selects "java/lang/String" ({ cls := "java/lang/String", name := "length", desc := "()I" } : Jvm.MethodName) ({ cls := "java/lang/String", name := "length", desc := "()I" } : Jvm.MethodName)) ∈ lw_all := lw_g (lw_at lw_m9 46 rfl) rfl
theorem q2084 : (Jvm.Cond.code ({ cls := "java/lang/String", name := "length", desc := "()I" } : Jvm.MethodName) prog_47_method_54_code (1 : Nat) (Option.some Jvm.ClassFile.FieldType.int)) ∈ lw_all := lw_g (lw_at lw_m9 47 rfl) rfl
theorem q2085 : (Jvm.Cond.methodLink "java/lang/AbstractStringBuilder" (208 : Nat) ({ cls := "java/lang/AbstractStringBuilder", name := "putStringAt", desc := "(ILjava/lang/String;)V" } : Jvm.MethodName)) ∈ lw_all := lw_g (lw_at lw_m9 48 rfl) rfl
theorem q2086 : (Jvm.Cond.privateMethod ({ cls := "java/lang/AbstractStringBuilder", name := "putStringAt", desc := "(ILjava/lang/String;)V" } : Jvm.MethodName)) ∈ lw_tbl := lw_at lw_m9 49 rfl
theorem q2087 : (Jvm.Cond.instanceMethod ({ cls := "java/lang/AbstractStringBuilder", name := "putStringAt", desc := "(ILjava/lang/String;)V" } : Jvm.MethodName)) ∈ lw_all := lw_g (lw_at lw_m9 50 rfl) rfl
theorem q2088 : (Jvm.Cond.code ({ cls := "java/lang/AbstractStringBuilder", name := "putStringAt", desc := "(ILjava/lang/String;)V" } : Jvm.MethodName) prog_35_method_73_code (3 : Nat) (Option.none : Option Jvm.ClassFile.FieldType)) ∈ lw_all := lw_g (lw_at lw_m9 51 rfl) rfl
theorem q2089 : (Jvm.Cond.methodLink "java/lang/AbstractStringBuilder" (397 : Nat) ({ cls := "java/lang/AbstractStringBuilder", name := "inflateIfNeededFor", desc := "(Ljava/lang/String;)V" } : Jvm.MethodName)) ∈ lw_all := lw_g (lw_at lw_m9 52 rfl) rfl
theorem q2090 : (Jvm.Cond.privateMethod ({ cls := "java/lang/AbstractStringBuilder", name := "inflateIfNeededFor", desc := "(Ljava/lang/String;)V" } : Jvm.MethodName)) ∈ lw_tbl := lw_at lw_m9 53 rfl
theorem q2091 : (Jvm.Cond.instanceMethod ({ cls := "java/lang/AbstractStringBuilder", name := "inflateIfNeededFor", desc := "(Ljava/lang/String;)V" } : Jvm.MethodName)) ∈ lw_all := lw_g (lw_at lw_m9 54 rfl) rfl
theorem q2092 : (Jvm.Cond.code ({ cls := "java/lang/AbstractStringBuilder", name := "inflateIfNeededFor", desc := "(Ljava/lang/String;)V" } : Jvm.MethodName) prog_35_method_71_code (2 : Nat) (Option.none : Option Jvm.ClassFile.FieldType)) ∈ lw_all := lw_g (lw_at lw_m9 55 rfl) rfl
theorem q2093 : (Jvm.Cond.methodLink "java/lang/AbstractStringBuilder" (40 : Nat) ({ cls := "java/lang/String", name := "coder", desc := "()B" } : Jvm.MethodName)) ∈ lw_all := lw_g (lw_at lw_m9 56 rfl) rfl
theorem q2094 : (Jvm.Cond.methodLink "java/lang/AbstractStringBuilder" (195 : Nat) ({ cls := "java/lang/AbstractStringBuilder", name := "inflate", desc := "()V" } : Jvm.MethodName)) ∈ lw_all := lw_g (lw_at lw_m9 57 rfl) rfl
theorem q2095 : (Jvm.Cond.privateMethod ({ cls := "java/lang/AbstractStringBuilder", name := "inflate", desc := "()V" } : Jvm.MethodName)) ∈ lw_tbl := lw_at lw_m9 58 rfl
theorem q2096 : (Jvm.Cond.instanceMethod ({ cls := "java/lang/AbstractStringBuilder", name := "inflate", desc := "()V" } : Jvm.MethodName)) ∈ lw_all := lw_g (lw_at lw_m9 59 rfl) rfl
theorem q2097 : (Jvm.Cond.code ({ cls := "java/lang/AbstractStringBuilder", name := "inflate", desc := "()V" } : Jvm.MethodName) prog_35_method_11_code (2 : Nat) (Option.none : Option Jvm.ClassFile.FieldType)) ∈ lw_all := lw_g (lw_at lw_m9 60 rfl) rfl
theorem q2098 : (Jvm.Cond.methodLink "java/lang/AbstractStringBuilder" (125 : Nat) ({ cls := "java/lang/StringLatin1", name := "inflate", desc := "([BI[BII)V" } : Jvm.MethodName)) ∈ lw_all := lw_g (lw_at lw_m9 61 rfl) rfl
theorem q2099 : (Jvm.Cond.static ({ cls := "java/lang/StringLatin1", name := "inflate", desc := "([BI[BII)V" } : Jvm.MethodName)) ∈ lw_all := lw_g (lw_at lw_m9 62 rfl) rfl
theorem q2100 : (Jvm.Cond.code ({ cls := "java/lang/StringLatin1", name := "inflate", desc := "([BI[BII)V" } : Jvm.MethodName) prog_49_method_50_code (5 : Nat) (Option.none : Option Jvm.ClassFile.FieldType)) ∈ lw_all := lw_g (lw_at lw_m9 63 rfl) rfl
theorem q2101 : (Jvm.Cond.methodLink "java/lang/StringLatin1" (240 : Nat) ({ cls := "java/lang/StringUTF16", name := "inflate", desc := "([BI[BII)V" } : Jvm.MethodName)) ∈ lw_all := lw_g (lw_at lw_m9 64 rfl) rfl
theorem q2102 : (Jvm.Cond.static ({ cls := "java/lang/StringUTF16", name := "inflate", desc := "([BI[BII)V" } : Jvm.MethodName)) ∈ lw_all := lw_g (lw_at lw_m9 65 rfl) rfl
theorem q2103 : (Jvm.Cond.code ({ cls := "java/lang/StringUTF16", name := "inflate", desc := "([BI[BII)V" } : Jvm.MethodName) prog_50_method_86_code (6 : Nat) (Option.none : Option Jvm.ClassFile.FieldType)) ∈ lw_all := lw_g (lw_at lw_m9 66 rfl) rfl
theorem q2104 : (Jvm.Cond.methodLink "java/lang/StringUTF16" (173 : Nat) ({ cls := "java/lang/StringUTF16", name := "checkBoundsOffCount", desc := "(II[B)V" } : Jvm.MethodName)) ∈ lw_all := lw_g (lw_at lw_m9 67 rfl) rfl
theorem q2105 : (Jvm.Cond.static ({ cls := "java/lang/StringUTF16", name := "checkBoundsOffCount", desc := "(II[B)V" } : Jvm.MethodName)) ∈ lw_all := lw_g (lw_at lw_m9 68 rfl) rfl
theorem q2106 : (Jvm.Cond.code ({ cls := "java/lang/StringUTF16", name := "checkBoundsOffCount", desc := "(II[B)V" } : Jvm.MethodName) prog_50_method_94_code (3 : Nat) (Option.none : Option Jvm.ClassFile.FieldType)) ∈ lw_all := lw_g (lw_at lw_m9 69 rfl) rfl
theorem q2107 : (Jvm.Cond.methodLink "java/lang/StringUTF16" (419 : Nat) ({ cls := "java/lang/String", name := "checkBoundsOffCount", desc := "(III)I" } : Jvm.MethodName)) ∈ lw_all := lw_g (lw_at lw_m9 70 rfl) rfl
theorem q2108 : (Jvm.Cond.static ({ cls := "java/lang/String", name := "checkBoundsOffCount", desc := "(III)I" } : Jvm.MethodName)) ∈ lw_all := lw_g (lw_at lw_m9 71 rfl) rfl
theorem q2109 : (Jvm.Cond.code ({ cls := "java/lang/String", name := "checkBoundsOffCount", desc := "(III)I" } : Jvm.MethodName) prog_47_method_157_code (3 : Nat) (Option.some Jvm.ClassFile.FieldType.int)) ∈ lw_all := lw_g (lw_at lw_m9 72 rfl) rfl
theorem q2110 : (Jvm.Cond.methodLink "java/lang/String" (1065 : Nat) ({ cls := "jdk/internal/util/Preconditions", name := "checkFromIndexSize", desc := "(IIILjava/util/function/BiFunction;)I" } : Jvm.MethodName)) ∈ lw_all := lw_g (lw_at lw_m9 73 rfl) rfl
theorem q2111 : (Jvm.Cond.static ({ cls := "jdk/internal/util/Preconditions", name := "checkFromIndexSize", desc := "(IIILjava/util/function/BiFunction;)I" } : Jvm.MethodName)) ∈ lw_all := lw_g (lw_at lw_m9 74 rfl) rfl
theorem q2112 : (Jvm.Cond.code ({ cls := "jdk/internal/util/Preconditions", name := "checkFromIndexSize", desc := "(IIILjava/util/function/BiFunction;)I" } : Jvm.MethodName) prog_97_method_13_code (4 : Nat) (Option.some Jvm.ClassFile.FieldType.int)) ∈ lw_all := lw_g (lw_at lw_m9 75 rfl) rfl
theorem q2113 : (Jvm.Cond.methodLink "java/lang/AbstractStringBuilder" (399 : Nat) ({ cls := "java/lang/String", name := "getBytes", desc := "([BIB)V" } : Jvm.MethodName)) ∈ lw_all := lw_g (lw_at lw_m9 76 rfl) rfl
theorem q2114 : (Jvm.Cond.instanceMethod ({ cls := "java/lang/String", name := "getBytes", desc := "([BIB)V" } : Jvm.MethodName)) ∈ lw_all := lw_g (lw_at lw_m9 77 rfl) rfl
theorem q2115 : (Jvm.Cond.selects "java/lang/String" ({ cls := "java/lang/String", name := "getBytes", desc := "([BIB)V" } : Jvm.MethodName) ({ cls := "java/lang/String", name := "getBytes", desc := "([BIB)V" } : Jvm.MethodName)) ∈ lw_all := lw_g (lw_at lw_m9 78 rfl) rfl
theorem q2116 : (Jvm.Cond.code ({ cls := "java/lang/String", name := "getBytes", desc := "([BIB)V" } : Jvm.MethodName) prog_47_method_147_code (4 : Nat) (Option.none : Option Jvm.ClassFile.FieldType)) ∈ lw_all := lw_g (lw_at lw_m9 79 rfl) rfl
theorem q2117 : (Jvm.Cond.methodLink "java/lang/String" (212 : Nat) ({ cls := "java/lang/System", name := "arraycopy", desc := "(Ljava/lang/Object;ILjava/lang/Object;II)V" } : Jvm.MethodName)) ∈ lw_all := lw_g (lw_at lw_m9 80 rfl) rfl
theorem q2118 : (Jvm.Cond.methodLink "java/lang/String" (106 : Nat) ({ cls := "java/lang/StringLatin1", name := "inflate", desc := "([BI[BII)V" } : Jvm.MethodName)) ∈ lw_all := lw_g (lw_at lw_m9 81 rfl) rfl
theorem q2119 : (Jvm.Cond.stringRef "GangColumns$Job" (99 : Nat) " r") ∈ lw_tbl := lw_at lw_m9 82 rfl
theorem q2120 : (Jvm.Cond.methodLink "GangColumns$Job" (101 : Nat) ({ cls := "java/lang/StringBuilder", name := "append", desc := "(C)Ljava/lang/StringBuilder;" } : Jvm.MethodName)) ∈ lw_all := lw_g (lw_at lw_m9 83 rfl) rfl
theorem q2121 : (Jvm.Cond.instanceMethod ({ cls := "java/lang/StringBuilder", name := "append", desc := "(C)Ljava/lang/StringBuilder;" } : Jvm.MethodName)) ∈ lw_all := lw_g (lw_at lw_m9 84 rfl) rfl
theorem q2122 : (Jvm.Cond.selects "java/lang/StringBuilder" ({ cls := "java/lang/StringBuilder", name := "append", desc := "(C)Ljava/lang/StringBuilder;" } : Jvm.MethodName) ({ cls := "java/lang/StringBuilder", name := "append", desc := "(C)Ljava/lang/StringBuilder;" } : Jvm.MethodName)) ∈ lw_all := lw_g (lw_at lw_m9 85 rfl) rfl
theorem q2123 : (Jvm.Cond.code ({ cls := "java/lang/StringBuilder", name := "append", desc := "(C)Ljava/lang/StringBuilder;" } : Jvm.MethodName) prog_48_method_14_code (2 : Nat) (Option.some (Jvm.ClassFile.FieldType.object "java/lang/StringBuilder"))) ∈ lw_all := lw_g (lw_at lw_m9 86 rfl) rfl
theorem q2124 : (Jvm.Cond.methodLink "java/lang/StringBuilder" (50 : Nat) ({ cls := "java/lang/AbstractStringBuilder", name := "append", desc := "(C)Ljava/lang/AbstractStringBuilder;" } : Jvm.MethodName)) ∈ lw_all := lw_g (lw_at lw_m9 87 rfl) rfl
theorem q2125 : (Jvm.Cond.instanceMethod ({ cls := "java/lang/AbstractStringBuilder", name := "append", desc := "(C)Ljava/lang/AbstractStringBuilder;" } : Jvm.MethodName)) ∈ lw_all := lw_g (lw_at lw_m9 88 rfl) rfl
theorem q2126 : (Jvm.Cond.code ({ cls := "java/lang/AbstractStringBuilder", name := "append", desc := "(C)Ljava/lang/AbstractStringBuilder;" } : Jvm.MethodName) prog_35_method_31_code (2 : Nat) (Option.some (Jvm.ClassFile.FieldType.object "java/lang/AbstractStringBuilder"))) ∈ lw_all := lw_g (lw_at lw_m9 89 rfl) rfl
theorem q2127 : (Jvm.Cond.methodLink "java/lang/AbstractStringBuilder" (191 : Nat) ({ cls := "java/lang/StringLatin1", name := "canEncode", desc := "(C)Z" } : Jvm.MethodName)) ∈ lw_all := lw_g (lw_at lw_m9 90 rfl) rfl
theorem q2128 : (Jvm.Cond.static ({ cls := "java/lang/StringLatin1", name := "canEncode", desc := "(C)Z" } : Jvm.MethodName)) ∈ lw_all := lw_g (lw_at lw_m9 91 rfl) rfl
theorem q2129 : (Jvm.Cond.code ({ cls := "java/lang/StringLatin1", name := "canEncode", desc := "(C)Z" } : Jvm.MethodName) prog_49_method_3_code (1 : Nat) (Option.some Jvm.ClassFile.FieldType.boolean)) ∈ lw_all := lw_g (lw_at lw_m9 92 rfl) rfl
theorem q2130 : (Jvm.Cond.methodLink "java/lang/AbstractStringBuilder" (197 : Nat) ({ cls := "java/lang/StringUTF16", name := "putCharSB", desc := "([BII)V" } : Jvm.MethodName)) ∈ lw_all := lw_g (lw_at lw_m9 93 rfl) rfl
theorem q2131 : (Jvm.Cond.static ({ cls := "java/lang/StringUTF16", name := "putCharSB", desc := "([BII)V" } : Jvm.MethodName)) ∈ lw_all := lw_g (lw_at lw_m9 94 rfl) rfl
theorem q2132 : (Jvm.Cond.code ({ cls := "java/lang/StringUTF16", name := "putCharSB", desc := "([BII)V" } : Jvm.MethodName) prog_50_method_71_code (3 : Nat) (Option.none : Option Jvm.ClassFile.FieldType)) ∈ lw_all := lw_g (lw_at lw_m9 95 rfl) rfl
theorem q2133 : (Jvm.Cond.methodLink "java/lang/StringUTF16" (67 : Nat) ({ cls := "java/lang/StringUTF16", name := "checkIndex", desc := "(I[B)V" } : Jvm.MethodName)) ∈ lw_all := lw_g (lw_at lw_m9 96 rfl) rfl
theorem q2134 : (Jvm.Cond.static ({ cls := "java/lang/StringUTF16", name := "checkIndex", desc := "(I[B)V" } : Jvm.MethodName)) ∈ lw_all := lw_g (lw_at lw_m9 97 rfl) rfl
theorem q2135 : (Jvm.Cond.code ({ cls := "java/lang/StringUTF16", name := "checkIndex", desc := "(I[B)V" } : Jvm.MethodName) prog_50_method_91_code (2 : Nat) (Option.none : Option Jvm.ClassFile.FieldType)) ∈ lw_all := lw_g (lw_at lw_m9 98 rfl) rfl
theorem q2136 : (Jvm.Cond.methodLink "java/lang/StringUTF16" (414 : Nat) ({ cls := "java/lang/String", name := "checkIndex", desc := "(II)V" } : Jvm.MethodName)) ∈ lw_all := lw_g (lw_at lw_m9 99 rfl) rfl
theorem q2137 : (Jvm.Cond.static ({ cls := "java/lang/String", name := "checkIndex", desc := "(II)V" } : Jvm.MethodName)) ∈ lw_all := lw_g (lw_at lw_m9 100 rfl) rfl
theorem q2138 : (Jvm.Cond.code ({ cls := "java/lang/String", name := "checkIndex", desc := "(II)V" } : Jvm.MethodName) prog_47_method_155_code (2 : Nat) (Option.none : Option Jvm.ClassFile.FieldType)) ∈ lw_all := lw_g (lw_at lw_m9 101 rfl) rfl
theorem q2139 : (Jvm.Cond.methodLink "java/lang/String" (1059 : Nat) ({ cls := "jdk/internal/util/Preconditions", name := "checkIndex", desc := "(IILjava/util/function/BiFunction;)I" } : Jvm.MethodName)) ∈ lw_all := lw_g (lw_at lw_m9 102 rfl) rfl
theorem q2140 : (Jvm.Cond.stringRef "GangColumns$Job" (104 : Nat) ",") ∈ lw_tbl := lw_at lw_m9 103 rfl
theorem q2141 : (Jvm.Cond.stringRef "GangColumns$Job" (106 : Nat) "") ∈ lw_tbl := lw_at lw_m9 104 rfl
theorem q2142 : (Jvm.Cond.methodLink "GangColumns$Job" (111 : Nat) ({ cls := "java/lang/StringBuilder", name := "toString", desc := "()Ljava/lang/String;" } : Jvm.MethodName)) ∈ lw_all := lw_g (lw_at lw_m9 105 rfl) rfl
theorem q2143 : (Jvm.Cond.instanceMethod ({ cls := "java/lang/StringBuilder", name := "toString", desc := "()Ljava/lang/String;" } : Jvm.MethodName)) ∈ lw_all := lw_g (lw_at lw_m9 106 rfl) rfl
theorem q2144 : (Jvm.Cond.selects "java/lang/StringBuilder" ({ cls := "java/lang/StringBuilder", name := "toString", desc := "()Ljava/lang/String;" } : Jvm.MethodName) ({ cls := "java/lang/StringBuilder", name := "toString", desc := "()Ljava/lang/String;" } : Jvm.MethodName)) ∈ lw_all := lw_g (lw_at lw_m9 107 rfl) rfl
theorem q2145 : (Jvm.Cond.code ({ cls := "java/lang/StringBuilder", name := "toString", desc := "()Ljava/lang/String;" } : Jvm.MethodName) prog_48_method_42_code (1 : Nat) (Option.some (Jvm.ClassFile.FieldType.object "java/lang/String"))) ∈ lw_all := lw_g (lw_at lw_m9 108 rfl) rfl
theorem q2146 : (Jvm.Cond.classLink "java/lang/StringBuilder" (18 : Nat) "java/lang/String") ∈ lw_all := lw_g (lw_at lw_m9 109 rfl) rfl
theorem q2147 : (Jvm.Cond.instantiable "java/lang/String" (4 : Nat)) ∈ lw_all := lw_g (lw_at lw_m9 110 rfl) rfl
theorem q2148 : (Jvm.Cond.methodLink "java/lang/StringBuilder" (137 : Nat) ({ cls := "java/lang/String", name := "<init>", desc := "(Ljava/lang/StringBuilder;)V" } : Jvm.MethodName)) ∈ lw_all := lw_g (lw_at lw_m9 111 rfl) rfl
theorem q2149 : (Jvm.Cond.instanceMethod ({ cls := "java/lang/String", name := "<init>", desc := "(Ljava/lang/StringBuilder;)V" } : Jvm.MethodName)) ∈ lw_all := lw_g (lw_at lw_m9 112 rfl) rfl
theorem q2150 : (Jvm.Cond.code ({ cls := "java/lang/String", name := "<init>", desc := "(Ljava/lang/StringBuilder;)V" } : Jvm.MethodName) prog_47_method_53_code (2 : Nat) (Option.none : Option Jvm.ClassFile.FieldType)) ∈ lw_all := lw_g (lw_at lw_m9 113 rfl) rfl
theorem q2151 : (Jvm.Cond.methodLink "java/lang/String" (489 : Nat) ({ cls := "java/lang/String", name := "<init>", desc := "(Ljava/lang/AbstractStringBuilder;Ljava/lang/Void;)V" } : Jvm.MethodName)) ∈ lw_all := lw_g (lw_at lw_m9 114 rfl) rfl
theorem q2152 : (Jvm.Cond.instanceMethod ({ cls := "java/lang/String", name := "<init>", desc := "(Ljava/lang/AbstractStringBuilder;Ljava/lang/Void;)V" } : Jvm.MethodName)) ∈ lw_all := lw_g (lw_at lw_m9 115 rfl) rfl
theorem q2153 : (Jvm.Cond.code ({ cls := "java/lang/String", name := "<init>", desc := "(Ljava/lang/AbstractStringBuilder;Ljava/lang/Void;)V" } : Jvm.MethodName) prog_47_method_150_code (5 : Nat) (Option.none : Option Jvm.ClassFile.FieldType)) ∈ lw_all := lw_g (lw_at lw_m9 116 rfl) rfl
theorem q2154 : (Jvm.Cond.methodLink "java/lang/String" (1 : Nat) ({ cls := "java/lang/Object", name := "<init>", desc := "()V" } : Jvm.MethodName)) ∈ lw_all := lw_g (lw_at lw_m9 117 rfl) rfl
theorem q2155 : (Jvm.Cond.methodLink "java/lang/String" (552 : Nat) ({ cls := "java/lang/AbstractStringBuilder", name := "getValue", desc := "()[B" } : Jvm.MethodName)) ∈ lw_all := lw_g (lw_at lw_m9 118 rfl) rfl
theorem q2156 : (Jvm.Cond.instanceMethod ({ cls := "java/lang/AbstractStringBuilder", name := "getValue", desc := "()[B" } : Jvm.MethodName)) ∈ lw_all := lw_g (lw_at lw_m9 119 rfl) rfl
theorem q2157 : (Jvm.Cond.sameMethod "java/lang/AbstractStringBuilder" "java/lang/AbstractStringBuilder" "getValue" "()[B") ∈ lw_all := lw_g (lw_at lw_m9 120 rfl) rfl
theorem q2158 : (Jvm.Cond.selects "java/lang/StringBuilder" ({ cls := "java/lang/AbstractStringBuilder", name := "getValue", desc := "()[B" } : Jvm.MethodName) ({ cls := "java/lang/AbstractStringBuilder", name := "getValue", desc := "()[B" } : Jvm.MethodName)) ∈ lw_all := lw_g (lw_at lw_m9 121 rfl) rfl
theorem q2159 : (Jvm.Cond.code ({ cls := "java/lang/AbstractStringBuilder", name := "getValue", desc := "()[B" } : Jvm.MethodName) prog_35_method_64_code (1 : Nat) (Option.some (Jvm.ClassFile.FieldType.array Jvm.ClassFile.FieldType.byte))) ∈ lw_all := lw_g (lw_at lw_m9 122 rfl) rfl
theorem q2160 : (Jvm.Cond.methodLink "java/lang/String" (549 : Nat) ({ cls := "java/lang/AbstractStringBuilder", name := "length", desc := "()I" } : Jvm.MethodName)) ∈ lw_all := lw_g (lw_at lw_m9 123 rfl) rfl
theorem q2161 : (Jvm.Cond.instanceMethod ({ cls := "java/lang/AbstractStringBuilder", name := "length", desc := "()I" } : Jvm.MethodName)) ∈ lw_all := lw_g (lw_at lw_m9 124 rfl) rfl
theorem q2162 : (Jvm.Cond.sameMethod "java/lang/AbstractStringBuilder" "java/lang/AbstractStringBuilder" "length" "()I") ∈ lw_all := lw_g (lw_at lw_m9 125 rfl) rfl
theorem q2163 : (Jvm.Cond.selects "java/lang/StringBuilder" ({ cls := "java/lang/AbstractStringBuilder", name := "length", desc := "()I" } : Jvm.MethodName) ({ cls := "java/lang/StringBuilder", name := "length", desc := "()I" } : Jvm.MethodName)) ∈ lw_all := lw_g (lw_at lw_m9 126 rfl) rfl
theorem q2164 : (Jvm.Cond.instanceMethod ({ cls := "java/lang/StringBuilder", name := "length", desc := "()I" } : Jvm.MethodName)) ∈ lw_all := lw_g (lw_at lw_m9 127 rfl) rfl
theorem q2165 : (Jvm.Cond.code ({ cls := "java/lang/StringBuilder", name := "length", desc := "()I" } : Jvm.MethodName) prog_48_method_93_code (1 : Nat) (Option.some Jvm.ClassFile.FieldType.int)) ∈ lw_all := lw_g (lw_at lw_m9 128 rfl) rfl
theorem q2166 : (Jvm.Cond.methodLink "java/lang/StringBuilder" (343 : Nat) ({ cls := "java/lang/AbstractStringBuilder", name := "length", desc := "()I" } : Jvm.MethodName)) ∈ lw_all := lw_g (lw_at lw_m9 129 rfl) rfl
theorem q2167 : (Jvm.Cond.code ({ cls := "java/lang/AbstractStringBuilder", name := "length", desc := "()I" } : Jvm.MethodName) prog_35_method_6_code (1 : Nat) (Option.some Jvm.ClassFile.FieldType.int)) ∈ lw_all := lw_g (lw_at lw_m9 130 rfl) rfl
theorem q2168 : (Jvm.Cond.methodLink "java/lang/String" (1047 : Nat) ({ cls := "java/lang/AbstractStringBuilder", name := "isLatin1", desc := "()Z" } : Jvm.MethodName)) ∈ lw_all := lw_g (lw_at lw_m9 131 rfl) rfl
theorem q2169 : (Jvm.Cond.methodLink "java/lang/String" (54 : Nat) ({ cls := "java/util/Arrays", name := "copyOfRange", desc := "([BII)[B" } : Jvm.MethodName)) ∈ lw_all := lw_g (lw_at lw_m9 132 rfl) rfl
theorem q2170 : (Jvm.Cond.static ({ cls := "java/util/Arrays", name := "copyOfRange", desc := "([BII)[B" } : Jvm.MethodName)) ∈ lw_all := lw_g (lw_at lw_m9 133 rfl) rfl
theorem q2171 : (Jvm.Cond.code ({ cls := "java/util/Arrays", name := "copyOfRange", desc := "([BII)[B" } : Jvm.MethodName) prog_63_method_132_code (3 : Nat) (Option.some (Jvm.ClassFile.FieldType.array Jvm.ClassFile.FieldType.byte))) ∈ lw_all := lw_g (lw_at lw_m9 134 rfl) rfl
theorem q2172 : (Jvm.Cond.methodLink "java/util/Arrays" (339 : Nat) ({ cls := "java/util/Arrays", name := "copyOfRangeByte", desc := "([BII)[B" } : Jvm.MethodName)) ∈ lw_all := lw_g (lw_at lw_m9 135 rfl) rfl
theorem q2173 : (Jvm.Cond.static ({ cls := "java/util/Arrays", name := "copyOfRangeByte", desc := "([BII)[B" } : Jvm.MethodName)) ∈ lw_all := lw_g (lw_at lw_m9 136 rfl) rfl
theorem q2174 : (Jvm.Cond.code ({ cls := "java/util/Arrays", name := "copyOfRangeByte", desc := "([BII)[B" } : Jvm.MethodName) prog_63_method_133_code (5 : Nat) (Option.some (Jvm.ClassFile.FieldType.array Jvm.ClassFile.FieldType.byte))) ∈ lw_all := lw_g (lw_at lw_m9 137 rfl) rfl
theorem q2175 : (Jvm.Cond.methodLink "java/util/Arrays" (343 : Nat) ({ cls := "java/util/Arrays", name := "checkLength", desc := "(II)V" } : Jvm.MethodName)) ∈ lw_all := lw_g (lw_at lw_m9 138 rfl) rfl
theorem q2176 : (Jvm.Cond.static ({ cls := "java/util/Arrays", name := "checkLength", desc := "(II)V" } : Jvm.MethodName)) ∈ lw_all := lw_g (lw_at lw_m9 139 rfl) rfl
theorem q2177 : (Jvm.Cond.code ({ cls := "java/util/Arrays", name := "checkLength", desc := "(II)V" } : Jvm.MethodName) prog_63_method_131_code (2 : Nat) (Option.none : Option Jvm.ClassFile.FieldType)) ∈ lw_all := lw_g (lw_at lw_m9 140 rfl) rfl
theorem q2178 : (Jvm.Cond.methodLink "java/lang/String" (1051 : Nat) ({ cls := "java/lang/StringUTF16", name := "compress", desc := "([BII)[B" } : Jvm.MethodName)) ∈ lw_all := lw_g (lw_at lw_m9 141 rfl) rfl
theorem q2179 : (Jvm.Cond.static ({ cls := "java/lang/StringUTF16", name := "compress", desc := "([BII)[B" } : Jvm.MethodName)) ∈ lw_all := lw_g (lw_at lw_m9 142 rfl) rfl
theorem q2180 : (Jvm.Cond.code ({ cls := "java/lang/StringUTF16", name := "compress", desc := "([BII)[B" } : Jvm.MethodName) prog_50_method_17_code (6 : Nat) (Option.some (Jvm.ClassFile.FieldType.array Jvm.ClassFile.FieldType.byte))) ∈ lw_all := lw_g (lw_at lw_m9 143 rfl) rfl
theorem q2181 : (Jvm.Cond.methodLink "java/lang/StringUTF16" (123 : Nat) ({ cls := "java/lang/StringUTF16", name := "compress", desc := "([BI[BII)I" } : Jvm.MethodName)) ∈ lw_all := lw_g (lw_at lw_m9 144 rfl) rfl
theorem q2182 : (Jvm.Cond.static ({ cls := "java/lang/StringUTF16", name := "compress", desc := "([BI[BII)I" } : Jvm.MethodName)) ∈ lw_all := lw_g (lw_at lw_m9 145 rfl) rfl
theorem q2183 : (Jvm.Cond.code ({ cls := "java/lang/StringUTF16", name := "compress", desc := "([BI[BII)I" } : Jvm.MethodName) prog_50_method_22_code (7 : Nat) (Option.some Jvm.ClassFile.FieldType.int)) ∈ lw_all := lw_g (lw_at lw_m9 146 rfl) rfl
theorem q2184 : (Jvm.Cond.methodLink "java/lang/StringUTF16" (126 : Nat) ({ cls := "java/util/Arrays", name := "copyOfRange", desc := "([BII)[B" } : Jvm.MethodName)) ∈ lw_all := lw_g (lw_at lw_m9 147 rfl) rfl
theorem q2185 : (Jvm.Cond.methodLink "java/lang/String" (47 : Nat) ({ cls := "java/lang/StringUTF16", name := "coderFromArrayLen", desc := "([BI)B" } : Jvm.MethodName)) ∈ lw_all := lw_g (lw_at lw_m9 148 rfl) rfl
theorem q2186 : (Jvm.Cond.static ({ cls := "java/lang/StringUTF16", name := "coderFromArrayLen", desc := "([BI)B" } : Jvm.MethodName)) ∈ lw_all := lw_g (lw_at lw_m9 149 rfl) rfl
theorem q2187 : (Jvm.Cond.code ({ cls := "java/lang/StringUTF16", name := "coderFromArrayLen", desc := "([BI)B" } : Jvm.MethodName) prog_50_method_15_code (2 : Nat) (Option.some Jvm.ClassFile.FieldType.byte)) ∈ lw_all := lw_g (lw_at lw_m9 150 rfl) rfl
theorem q2188 : (Jvm.Cond.fieldLink "java/lang/String" (9 : Nat) "java/lang/String" "value" "[B") ∈ lw_all := lw_g (lw_at lw_m9 151 rfl) rfl
theorem q2189 : (Jvm.Cond.fieldLink "java/lang/String" (15 : Nat) "java/lang/String" "coder" "B") ∈ lw_all := lw_g (lw_at lw_m9 152 rfl) rfl
theorem q2190 : (Jvm.Cond.fieldLink "java/lang/String" (19 : Nat) "java/lang/String" "hash" "I") ∈ lw_all := lw_g (lw_at lw_m9 153 rfl) rfl
theorem q2191 : (Jvm.Cond.fieldLink "java/lang/String" (23 : Nat) "java/lang/String" "hashIsZero" "Z") ∈ lw_all := lw_g (lw_at lw_m9 154 rfl) rfl
theorem q2192 : (Jvm.Cond.laysFinal "java/lang/String" "java/lang/String" "value" "[B") ∈ lw_all := lw_g (lw_at lw_m9 155 rfl) rfl
theorem q2193 : (Jvm.Cond.soleField "java/lang/String" "value") ∈ lw_all := lw_g (lw_at lw_m9 156 rfl) rfl
theorem q2194 : (Jvm.Cond.laysFinal "java/lang/String" "java/lang/String" "coder" "B") ∈ lw_all := lw_g (lw_at lw_m9 157 rfl) rfl
theorem q2195 : (Jvm.Cond.soleField "java/lang/String" "coder") ∈ lw_all := lw_g (lw_at lw_m9 158 rfl) rfl
theorem q2196 : (Jvm.Cond.lays "java/lang/String" "java/lang/String" "hash" "I") ∈ lw_all := lw_g (lw_at lw_m9 159 rfl) rfl
theorem q2197 : (Jvm.Cond.soleField "java/lang/String" "hash") ∈ lw_all := lw_g (lw_at lw_m9 160 rfl) rfl
theorem q2198 : (Jvm.Cond.lays "java/lang/String" "java/lang/String" "hashIsZero" "Z") ∈ lw_all := lw_g (lw_at lw_m9 161 rfl) rfl
theorem q2199 : (Jvm.Cond.soleField "java/lang/String" "hashIsZero") ∈ lw_all := lw_g (lw_at lw_m9 162 rfl) rfl
theorem q2200 : (Jvm.Cond.superclass "java/lang/String" "java/lang/Object") ∈ lw_all := lw_g (lw_at lw_m9 163 rfl) rfl
theorem q2201 : (Jvm.Cond.methodLink "GangColumns$Job" (115 : Nat) ({ cls := "java/lang/StringBuilder", name := "append", desc := "(Ljava/lang/Object;)Ljava/lang/StringBuilder;" } : Jvm.MethodName)) ∈ lw_all := lw_g (lw_at lw_m9 164 rfl) rfl
theorem q2202 : (Jvm.Cond.instanceMethod ({ cls := "java/lang/StringBuilder", name := "append", desc := "(Ljava/lang/Object;)Ljava/lang/StringBuilder;" } : Jvm.MethodName)) ∈ lw_all := lw_g (lw_at lw_m9 165 rfl) rfl
theorem q2203 : (Jvm.Cond.selects "java/lang/StringBuilder" ({ cls := "java/lang/StringBuilder", name := "append", desc := "(Ljava/lang/Object;)Ljava/lang/StringBuilder;" } : Jvm.MethodName) ({ cls := "java/lang/StringBuilder", name := "append", desc := "(Ljava/lang/Object;)Ljava/lang/StringBuilder;" } : Jvm.MethodName)) ∈ lw_all := lw_g (lw_at lw_m9 166 rfl) rfl
theorem q2204 : (Jvm.Cond.code ({ cls := "java/lang/StringBuilder", name := "append", desc := "(Ljava/lang/Object;)Ljava/lang/StringBuilder;" } : Jvm.MethodName) prog_48_method_6_code (2 : Nat) (Option.some (Jvm.ClassFile.FieldType.object "java/lang/StringBuilder"))) ∈ lw_all := lw_g (lw_at lw_m9 167 rfl) rfl
theorem q2205 : (Jvm.Cond.methodLink "java/lang/StringBuilder" (17 : Nat) ({ cls := "java/lang/String", name := "valueOf", desc := "(Ljava/lang/Object;)Ljava/lang/String;" } : Jvm.MethodName)) ∈ lw_all := lw_g (lw_at lw_m9 168 rfl) rfl
theorem q2206 : (Jvm.Cond.static ({ cls := "java/lang/String", name := "valueOf", desc := "(Ljava/lang/Object;)Ljava/lang/String;" } : Jvm.MethodName)) ∈ lw_all := lw_g (lw_at lw_m9 169 rfl) rfl
theorem q2207 : (Jvm.Cond.code ({ cls := "java/lang/String", name := "valueOf", desc := "(Ljava/lang/Object;)Ljava/lang/String;" } : Jvm.MethodName) prog_47_method_133_code (1 : Nat) (Option.some (Jvm.ClassFile.FieldType.object "java/lang/String"))) ∈ lw_all := lw_g (lw_at lw_m9 170 rfl) rfl
theorem q2208 : (Jvm.Cond.stringRef "java/lang/String" (1005 : Nat) "null") ∈ lw_tbl := lw_at lw_m9 171 rfl
theorem q2209 : (Jvm.Cond.declares ({ cls := "java/lang/Object", name := "toString", desc := "()Ljava/lang/String;" } : Jvm.MethodName)) ∈ lw_tbl := lw_at lw_m9 172 rfl
theorem q2210 : (Jvm.Cond.methodLink "java/lang/String" (1007 : Nat) ({ cls := "java/lang/Object", name := "toString", desc := "()Ljava/lang/String;" } : Jvm.MethodName)) ∈ lw_all := lw_g (lw_at lw_m9 173 rfl) rfl
theorem q2211 : (Jvm.Cond.instanceMethod ({ cls := "java/lang/Object", name := "toString", desc := "()Ljava/lang/String;" } : Jvm.MethodName)) ∈ lw_all := lw_g (lw_at lw_m9 174 rfl) rfl
theorem q2212 : (Jvm.Cond.sameMethod "java/lang/Object" "java/lang/Object" "toString" "()Ljava/lang/String;") ∈ lw_all := lw_g (lw_at lw_m9 175 rfl) rfl
theorem q2213 : (Jvm.Cond.selects "GangColumns" ({ cls := "java/lang/Object", name := "toString", desc := "()Ljava/lang/String;" } : Jvm.MethodName) ({ cls := "java/lang/Object", name := "toString", desc := "()Ljava/lang/String;" } : Jvm.MethodName)) ∈ lw_all := lw_g (lw_at lw_m9 176 rfl) rfl
theorem q2214 : (Jvm.Cond.selects "GangColumns$1" ({ cls := "java/lang/Object", name := "toString", desc := "()Ljava/lang/String;" } : Jvm.MethodName) ({ cls := "java/lang/Object", name := "toString", desc := "()Ljava/lang/String;" } : Jvm.MethodName)) ∈ lw_all := lw_g (lw_at lw_m9 177 rfl) rfl
theorem q2215 : (Jvm.Cond.selects "GangColumns$1Holds" ({ cls := "java/lang/Object", name := "toString", desc := "()Ljava/lang/String;" } : Jvm.MethodName) ({ cls := "java/lang/Object", name := "toString", desc := "()Ljava/lang/String;" } : Jvm.MethodName)) ∈ lw_all := lw_g (lw_at lw_m9 178 rfl) rfl
theorem q2216 : (Jvm.Cond.selects "GangColumns$Arm" ({ cls := "java/lang/Object", name := "toString", desc := "()Ljava/lang/String;" } : Jvm.MethodName) ({ cls := "java/lang/Object", name := "toString", desc := "()Ljava/lang/String;" } : Jvm.MethodName)) ∈ lw_all := lw_g (lw_at lw_m9 179 rfl) rfl
theorem q2217 : (Jvm.Cond.selects "GangColumns$ArmsReader" ({ cls := "java/lang/Object", name := "toString", desc := "()Ljava/lang/String;" } : Jvm.MethodName) ({ cls := "java/lang/Object", name := "toString", desc := "()Ljava/lang/String;" } : Jvm.MethodName)) ∈ lw_all := lw_g (lw_at lw_m9 180 rfl) rfl
theorem q2218 : (Jvm.Cond.selects "GangColumns$ByEnd" ({ cls := "java/lang/Object", name := "toString", desc := "()Ljava/lang/String;" } : Jvm.MethodName) ({ cls := "java/lang/Object", name := "toString", desc := "()Ljava/lang/String;" } : Jvm.MethodName)) ∈ lw_all := lw_g (lw_at lw_m9 181 rfl) rfl
theorem q2219 : (Jvm.Cond.selects "GangColumns$ByWidth" ({ cls := "java/lang/Object", name := "toString", desc := "()Ljava/lang/String;" } : Jvm.MethodName) ({ cls := "java/lang/Object", name := "toString", desc := "()Ljava/lang/String;" } : Jvm.MethodName)) ∈ lw_all := lw_g (lw_at lw_m9 182 rfl) rfl
theorem q2220 : (Jvm.Cond.selects "GangColumns$Cluster" ({ cls := "java/lang/Object", name := "toString", desc := "()Ljava/lang/String;" } : Jvm.MethodName) ({ cls := "java/lang/Object", name := "toString", desc := "()Ljava/lang/String;" } : Jvm.MethodName)) ∈ lw_all := lw_g (lw_at lw_m9 183 rfl) rfl
theorem q2221 : (Jvm.Cond.selects "GangColumns$Cluster$InLine" ({ cls := "java/lang/Object", name := "toString", desc := "()Ljava/lang/String;" } : Jvm.MethodName) ({ cls := "java/lang/Object", name := "toString", desc := "()Ljava/lang/String;" } : Jvm.MethodName)) ∈ lw_all := lw_g (lw_at lw_m9 184 rfl) rfl
theorem q2222 : (Jvm.Cond.selects "GangColumns$Column" ({ cls := "java/lang/Object", name := "toString", desc := "()Ljava/lang/String;" } : Jvm.MethodName) ({ cls := "java/lang/Object", name := "toString", desc := "()Ljava/lang/String;" } : Jvm.MethodName)) ∈ lw_all := lw_g (lw_at lw_m9 185 rfl) rfl
theorem q2223 : (Jvm.Cond.selects "GangColumns$Event" ({ cls := "java/lang/Object", name := "toString", desc := "()Ljava/lang/String;" } : Jvm.MethodName) ({ cls := "java/lang/Object", name := "toString", desc := "()Ljava/lang/String;" } : Jvm.MethodName)) ∈ lw_all := lw_g (lw_at lw_m9 186 rfl) rfl
theorem q2224 : (Jvm.Cond.selects "GangColumns$Fault" ({ cls := "java/lang/Object", name := "toString", desc := "()Ljava/lang/String;" } : Jvm.MethodName) ({ cls := "java/lang/Throwable", name := "toString", desc := "()Ljava/lang/String;" } : Jvm.MethodName)) ∈ lw_all := lw_g (lw_at lw_m9 187 rfl) rfl
theorem q2225 : (Jvm.Cond.instanceMethod ({ cls := "java/lang/Throwable", name := "toString", desc := "()Ljava/lang/String;" } : Jvm.MethodName)) ∈ lw_all := lw_g (lw_at lw_m9 188 rfl) rfl
theorem q2226 : (Jvm.Cond.code ({ cls := "java/lang/Throwable", name := "toString", desc := "()Ljava/lang/String;" } : Jvm.MethodName) prog_52_method_11_code (3 : Nat) (Option.some (Jvm.ClassFile.FieldType.object "java/lang/String"))) ∈ lw_all := lw_g (lw_at lw_m9 189 rfl) rfl
theorem q2227 : (Jvm.Cond.methodLink "java/lang/Throwable" (69 : Nat) ({ cls := "java/lang/Object", name := "getClass", desc := "()Ljava/lang/Class;" } : Jvm.MethodName)) ∈ lw_all := lw_g (lw_at lw_m9 190 rfl) rfl
theorem q2228 : (Jvm.Cond.methodLink "java/lang/Throwable" (78 : Nat) ({ cls := "java/lang/Throwable", name := "getLocalizedMessage", desc := "()Ljava/lang/String;" } : Jvm.MethodName)) ∈ lw_all := lw_g (lw_at lw_m9 191 rfl) rfl
theorem q2229 : (Jvm.Cond.instanceMethod ({ cls := "java/lang/Throwable", name := "getLocalizedMessage", desc := "()Ljava/lang/String;" } : Jvm.MethodName)) ∈ lw_all := lw_g (lw_at lw_m9 192 rfl) rfl
theorem q2230 : (Jvm.Cond.sameMethod "java/lang/Throwable" "java/lang/Throwable" "getLocalizedMessage" "()Ljava/lang/String;") ∈ lw_all := lw_g (lw_at lw_m9 193 rfl) rfl
theorem q2231 : (Jvm.Cond.selects "GangColumns$Fault" ({ cls := "java/lang/Throwable", name := "getLocalizedMessage", desc := "()Ljava/lang/String;" } : Jvm.MethodName) ({ cls := "java/lang/Throwable", name := "getLocalizedMessage", desc := "()Ljava/lang/String;" } : Jvm.MethodName)) ∈ lw_all := lw_g (lw_at lw_m9 194 rfl) rfl
theorem q2232 : (Jvm.Cond.code ({ cls := "java/lang/Throwable", name := "getLocalizedMessage", desc := "()Ljava/lang/String;" } : Jvm.MethodName) prog_52_method_7_code (1 : Nat) (Option.some (Jvm.ClassFile.FieldType.object "java/lang/String"))) ∈ lw_all := lw_g (lw_at lw_m9 195 rfl) rfl
theorem q2233 : (Jvm.Cond.methodLink "java/lang/Throwable" (39 : Nat) ({ cls := "java/lang/Throwable", name := "getMessage", desc := "()Ljava/lang/String;" } : Jvm.MethodName)) ∈ lw_all := lw_g (lw_at lw_m9 196 rfl) rfl
theorem q2234 : (Jvm.Cond.instanceMethod ({ cls := "java/lang/Throwable", name := "getMessage", desc := "()Ljava/lang/String;" } : Jvm.MethodName)) ∈ lw_all := lw_g (lw_at lw_m9 197 rfl) rfl
theorem q2235 : (Jvm.Cond.sameMethod "java/lang/Throwable" "java/lang/Throwable" "getMessage" "()Ljava/lang/String;") ∈ lw_all := lw_g (lw_at lw_m9 198 rfl) rfl
theorem q2236 : (Jvm.Cond.selects "GangColumns$Fault" ({ cls := "java/lang/Throwable", name := "getMessage", desc := "()Ljava/lang/String;" } : Jvm.MethodName) ({ cls := "java/lang/Throwable", name := "getMessage", desc := "()Ljava/lang/String;" } : Jvm.MethodName)) ∈ lw_all := lw_g (lw_at lw_m9 199 rfl) rfl
theorem q2237 : (Jvm.Cond.code ({ cls := "java/lang/Throwable", name := "getMessage", desc := "()Ljava/lang/String;" } : Jvm.MethodName) prog_52_method_6_code (1 : Nat) (Option.some (Jvm.ClassFile.FieldType.object "java/lang/String"))) ∈ lw_all := lw_g (lw_at lw_m9 200 rfl) rfl
theorem q2238 : (Jvm.Cond.classLink "java/lang/Throwable" (44 : Nat) "java/lang/StringBuilder") ∈ lw_all := lw_g (lw_at lw_m9 201 rfl) rfl
theorem q2239 : (Jvm.Cond.methodLink "java/lang/Throwable" (46 : Nat) ({ cls := "java/lang/StringBuilder", name := "<init>", desc := "()V" } : Jvm.MethodName)) ∈ lw_all := lw_g (lw_at lw_m9 202 rfl) rfl
theorem q2240 : (Jvm.Cond.methodLink "java/lang/Throwable" (49 : Nat) ({ cls := "java/lang/StringBuilder", name := "append", desc := "(Ljava/lang/String;)Ljava/lang/StringBuilder;" } : Jvm.MethodName)) ∈ lw_all := lw_g (lw_at lw_m9 203 rfl) rfl
theorem q2241 : (Jvm.Cond.stringRef "java/lang/Throwable" (81 : Nat) ": ") ∈ lw_tbl := lw_at lw_m9 204 rfl
theorem q2242 : (Jvm.Cond.methodLink "java/lang/Throwable" (60 : Nat) ({ cls := "java/lang/StringBuilder", name := "toString", desc := "()Ljava/lang/String;" } : Jvm.MethodName)) ∈ lw_all := lw_g (lw_at lw_m9 205 rfl) rfl
theorem q2243 : (Jvm.Cond.selects "GangColumns$Foresight" ({ cls := "java/lang/Object", name := "toString", desc := "()Ljava/lang/String;" } : Jvm.MethodName) ({ cls := "java/lang/Object", name := "toString", desc := "()Ljava/lang/String;" } : Jvm.MethodName)) ∈ lw_all := lw_g (lw_at lw_m9 206 rfl) rfl
theorem q2244 : (Jvm.Cond.selects "GangColumns$FreeRuns" ({ cls := "java/lang/Object", name := "toString", desc := "()Ljava/lang/String;" } : Jvm.MethodName) ({ cls := "java/lang/Object", name := "toString", desc := "()Ljava/lang/String;" } : Jvm.MethodName)) ∈ lw_all := lw_g (lw_at lw_m9 207 rfl) rfl
theorem q2245 : (Jvm.Cond.selects "GangColumns$FreeRuns$1" ({ cls := "java/lang/Object", name := "toString", desc := "()Ljava/lang/String;" } : Jvm.MethodName) ({ cls := "java/lang/Object", name := "toString", desc := "()Ljava/lang/String;" } : Jvm.MethodName)) ∈ lw_all := lw_g (lw_at lw_m9 208 rfl) rfl
theorem q2246 : (Jvm.Cond.selects "GangColumns$Going" ({ cls := "java/lang/Object", name := "toString", desc := "()Ljava/lang/String;" } : Jvm.MethodName) ({ cls := "java/lang/Object", name := "toString", desc := "()Ljava/lang/String;" } : Jvm.MethodName)) ∈ lw_all := lw_g (lw_at lw_m9 209 rfl) rfl
theorem q2247 : (Jvm.Cond.selects "GangColumns$Job" ({ cls := "java/lang/Object", name := "toString", desc := "()Ljava/lang/String;" } : Jvm.MethodName) ({ cls := "java/lang/Object", name := "toString", desc := "()Ljava/lang/String;" } : Jvm.MethodName)) ∈ lw_all := lw_g (lw_at lw_m9 210 rfl) rfl
theorem q2248 : (Jvm.Cond.selects "GangColumns$Kept" ({ cls := "java/lang/Object", name := "toString", desc := "()Ljava/lang/String;" } : Jvm.MethodName) ({ cls := "java/lang/Object", name := "toString", desc := "()Ljava/lang/String;" } : Jvm.MethodName)) ∈ lw_all := lw_g (lw_at lw_m9 211 rfl) rfl
theorem q2249 : (Jvm.Cond.selects "GangColumns$Moves" ({ cls := "java/lang/Object", name := "toString", desc := "()Ljava/lang/String;" } : Jvm.MethodName) ({ cls := "java/lang/Object", name := "toString", desc := "()Ljava/lang/String;" } : Jvm.MethodName)) ∈ lw_all := lw_g (lw_at lw_m9 212 rfl) rfl
theorem q2250 : (Jvm.Cond.selects "GangColumns$Orders" ({ cls := "java/lang/Object", name := "toString", desc := "()Ljava/lang/String;" } : Jvm.MethodName) ({ cls := "java/lang/Object", name := "toString", desc := "()Ljava/lang/String;" } : Jvm.MethodName)) ∈ lw_all := lw_g (lw_at lw_m9 213 rfl) rfl
theorem q2251 : (Jvm.Cond.selects "GangColumns$Promised" ({ cls := "java/lang/Object", name := "toString", desc := "()Ljava/lang/String;" } : Jvm.MethodName) ({ cls := "java/lang/Object", name := "toString", desc := "()Ljava/lang/String;" } : Jvm.MethodName)) ∈ lw_all := lw_g (lw_at lw_m9 214 rfl) rfl
theorem q2252 : (Jvm.Cond.selects "GangColumns$Promises" ({ cls := "java/lang/Object", name := "toString", desc := "()Ljava/lang/String;" } : Jvm.MethodName) ({ cls := "java/lang/Object", name := "toString", desc := "()Ljava/lang/String;" } : Jvm.MethodName)) ∈ lw_all := lw_g (lw_at lw_m9 215 rfl) rfl
theorem q2253 : (Jvm.Cond.selects "GangColumns$Run" ({ cls := "java/lang/Object", name := "toString", desc := "()Ljava/lang/String;" } : Jvm.MethodName) ({ cls := "java/lang/Object", name := "toString", desc := "()Ljava/lang/String;" } : Jvm.MethodName)) ∈ lw_all := lw_g (lw_at lw_m9 216 rfl) rfl
theorem q2254 : (Jvm.Cond.selects "GangColumns$Runs" ({ cls := "java/lang/Object", name := "toString", desc := "()Ljava/lang/String;" } : Jvm.MethodName) ({ cls := "java/lang/Object", name := "toString", desc := "()Ljava/lang/String;" } : Jvm.MethodName)) ∈ lw_all := lw_g (lw_at lw_m9 217 rfl) rfl
theorem q2255 : (Jvm.Cond.selects "GangColumns$Share" ({ cls := "java/lang/Object", name := "toString", desc := "()Ljava/lang/String;" } : Jvm.MethodName) ({ cls := "java/lang/Object", name := "toString", desc := "()Ljava/lang/String;" } : Jvm.MethodName)) ∈ lw_all := lw_g (lw_at lw_m9 218 rfl) rfl
theorem q2256 : (Jvm.Cond.selects "GangColumns$Span" ({ cls := "java/lang/Object", name := "toString", desc := "()Ljava/lang/String;" } : Jvm.MethodName) ({ cls := "java/lang/Object", name := "toString", desc := "()Ljava/lang/String;" } : Jvm.MethodName)) ∈ lw_all := lw_g (lw_at lw_m9 219 rfl) rfl
theorem q2257 : (Jvm.Cond.selects "GangColumns$WidestGoing" ({ cls := "java/lang/Object", name := "toString", desc := "()Ljava/lang/String;" } : Jvm.MethodName) ({ cls := "java/lang/Object", name := "toString", desc := "()Ljava/lang/String;" } : Jvm.MethodName)) ∈ lw_all := lw_g (lw_at lw_m9 220 rfl) rfl
theorem q2258 : (Jvm.Cond.selects "GangColumnsModel" ({ cls := "java/lang/Object", name := "toString", desc := "()Ljava/lang/String;" } : Jvm.MethodName) ({ cls := "java/lang/Object", name := "toString", desc := "()Ljava/lang/String;" } : Jvm.MethodName)) ∈ lw_all := lw_g (lw_at lw_m9 221 rfl) rfl
theorem q2259 : (Jvm.Cond.selects "java/lang/Integer" ({ cls := "java/lang/Object", name := "toString", desc := "()Ljava/lang/String;" } : Jvm.MethodName) ({ cls := "java/lang/Integer", name := "toString", desc := "()Ljava/lang/String;" } : Jvm.MethodName)) ∈ lw_all := lw_g (lw_at lw_m9 222 rfl) rfl
theorem q2260 : (Jvm.Cond.instanceMethod ({ cls := "java/lang/Integer", name := "toString", desc := "()Ljava/lang/String;" } : Jvm.MethodName)) ∈ lw_all := lw_g (lw_at lw_m9 223 rfl) rfl
theorem q2261 : (Jvm.Cond.code ({ cls := "java/lang/Integer", name := "toString", desc := "()Ljava/lang/String;" } : Jvm.MethodName) prog_41_method_31_code (1 : Nat) (Option.some (Jvm.ClassFile.FieldType.object "java/lang/String"))) ∈ lw_all := lw_g (lw_at lw_m9 224 rfl) rfl
theorem q2262 : (Jvm.Cond.methodLink "java/lang/Integer" (9 : Nat) ({ cls := "java/lang/Integer", name := "toString", desc := "(I)Ljava/lang/String;" } : Jvm.MethodName)) ∈ lw_all := lw_g (lw_at lw_m9 225 rfl) rfl
theorem q2263 : (Jvm.Cond.static ({ cls := "java/lang/Integer", name := "toString", desc := "(I)Ljava/lang/String;" } : Jvm.MethodName)) ∈ lw_all := lw_g (lw_at lw_m9 226 rfl) rfl
theorem q2264 : (Jvm.Cond.code ({ cls := "java/lang/Integer", name := "toString", desc := "(I)Ljava/lang/String;" } : Jvm.MethodName) prog_41_method_10_code (3 : Nat) (Option.some (Jvm.ClassFile.FieldType.object "java/lang/String"))) ∈ lw_all := lw_g (lw_at lw_m9 227 rfl) rfl
theorem q2265 : (Jvm.Cond.methodLink "java/lang/Integer" (72 : Nat) ({ cls := "java/lang/Integer", name := "stringSize", desc := "(I)I" } : Jvm.MethodName)) ∈ lw_all := lw_g (lw_at lw_m9 228 rfl) rfl
theorem q2266 : (Jvm.Cond.fieldLink "java/lang/Integer" (13 : Nat) "java/lang/String" "COMPACT_STRINGS" "Z") ∈ lw_all := lw_g (lw_at lw_m9 229 rfl) rfl
theorem q2267 : (Jvm.Cond.methodLink "java/lang/Integer" (75 : Nat) ({ cls := "java/lang/Integer", name := "getChars", desc := "(II[B)I" } : Jvm.MethodName)) ∈ lw_all := lw_g (lw_at lw_m9 230 rfl) rfl
theorem q2268 : (Jvm.Cond.classLink "java/lang/Integer" (5 : Nat) "java/lang/String") ∈ lw_all := lw_g (lw_at lw_m9 231 rfl) rfl
theorem q2269 : (Jvm.Cond.methodLink "java/lang/Integer" (65 : Nat) ({ cls := "java/lang/String", name := "<init>", desc := "([BB)V" } : Jvm.MethodName)) ∈ lw_all := lw_g (lw_at lw_m9 232 rfl) rfl
theorem q2270 : (Jvm.Cond.instanceMethod ({ cls := "java/lang/String", name := "<init>", desc := "([BB)V" } : Jvm.MethodName)) ∈ lw_all := lw_g (lw_at lw_m9 233 rfl) rfl
theorem q2271 : (Jvm.Cond.code ({ cls := "java/lang/String", name := "<init>", desc := "([BB)V" } : Jvm.MethodName) prog_47_method_151_code (3 : Nat) (Option.none : Option Jvm.ClassFile.FieldType)) ∈ lw_all := lw_g (lw_at lw_m9 234 rfl) rfl
theorem q2272 : (Jvm.Cond.methodLink "java/lang/Integer" (79 : Nat) ({ cls := "java/lang/StringUTF16", name := "getChars", desc := "(II[B)I" } : Jvm.MethodName)) ∈ lw_all := lw_g (lw_at lw_m9 235 rfl) rfl
theorem q2273 : (Jvm.Cond.selects "java/lang/String" ({ cls := "java/lang/Object", name := "toString", desc := "()Ljava/lang/String;" } : Jvm.MethodName) ({ cls := "java/lang/String", name := "toString", desc := "()Ljava/lang/String;" } : Jvm.MethodName)) ∈ lw_all := lw_g (lw_at lw_m9 236 rfl) rfl
theorem q2274 : (Jvm.Cond.instanceMethod ({ cls := "java/lang/String", name := "toString", desc := "()Ljava/lang/String;" } : Jvm.MethodName)) ∈ lw_all := lw_g (lw_at lw_m9 237 rfl) rfl
theorem q2275 : (Jvm.Cond.code ({ cls := "java/lang/String", name := "toString", desc := "()Ljava/lang/String;" } : Jvm.MethodName) prog_47_method_126_code (1 : Nat) (Option.some (Jvm.ClassFile.FieldType.object "java/lang/String"))) ∈ lw_all := lw_g (lw_at lw_m9 238 rfl) rfl
theorem q2276 : (Jvm.Cond.selects "java/lang/StringBuilder" ({ cls := "java/lang/Object", name := "toString", desc := "()Ljava/lang/String;" } : Jvm.MethodName) ({ cls := "java/lang/StringBuilder", name := "toString", desc := "()Ljava/lang/String;" } : Jvm.MethodName)) ∈ lw_all := lw_g (lw_at lw_m9 239 rfl) rfl
theorem q2277 : (Jvm.Cond.selects "jdk/internal/misc/Unsafe" ({ cls := "java/lang/Object", name := "toString", desc := "()Ljava/lang/String;" } : Jvm.MethodName) ({ cls := "java/lang/Object", name := "toString", desc := "()Ljava/lang/String;" } : Jvm.MethodName)) ∈ lw_all := lw_g (lw_at lw_m10 0 rfl) rfl
theorem q2278 : (Jvm.Cond.methodLink "java/lang/StringBuilder" (23 : Nat) ({ cls := "java/lang/StringBuilder", name := "append", desc := "(Ljava/lang/String;)Ljava/lang/StringBuilder;" } : Jvm.MethodName)) ∈ lw_all := lw_g (lw_at lw_m10 1 rfl) rfl
theorem q2279 : (Jvm.Cond.stringRef "GangColumns$Job" (118 : Nat) " @") ∈ lw_tbl := lw_at lw_m10 2 rfl
theorem q2280 : (Jvm.Cond.methodLink "GangColumns" (265 : Nat) ({ cls := "java/lang/String", name := "length", desc := "()I" } : Jvm.MethodName)) ∈ lw_all := lw_g (lw_at lw_m10 3 rfl) rfl
theorem q2281 : (Jvm.Cond.methodLink "GangColumns" (269 : Nat) ({ cls := "java/lang/String", name := "charAt", desc := "(I)C" } : Jvm.MethodName)) ∈ lw_all := lw_g (lw_at lw_m10 4 rfl) rfl
theorem q2282 : (Jvm.Cond.instanceMethod ({ cls := "java/lang/String", name := "charAt", desc := "(I)C" } : Jvm.MethodName)) ∈ lw_all := lw_g (lw_at lw_m10 5 rfl) rfl
theorem q2283 : (Jvm.Cond.selects "java/lang/String" ({ cls := "java/lang/String", name := "charAt", desc := "(I)C" } : Jvm.MethodName) ({ cls := "java/lang/String", name := "charAt", desc := "(I)C" } : Jvm.MethodName)) ∈ lw_all := lw_g (lw_at lw_m10 6 rfl) rfl
theorem q2284 : (Jvm.Cond.code ({ cls := "java/lang/String", name := "charAt", desc := "(I)C" } : Jvm.MethodName) prog_47_method_56_code (2 : Nat) (Option.some Jvm.ClassFile.FieldType.char)) ∈ lw_all := lw_g (lw_at lw_m10 7 rfl) rfl
theorem q2285 : (Jvm.Cond.methodLink "java/lang/String" (492 : Nat) ({ cls := "java/lang/String", name := "isLatin1", desc := "()Z" } : Jvm.MethodName)) ∈ lw_all := lw_g (lw_at lw_m10 8 rfl) rfl
theorem q2286 : (Jvm.Cond.instanceMethod ({ cls := "java/lang/String", name := "isLatin1", desc := "()Z" } : Jvm.MethodName)) ∈ lw_all := lw_g (lw_at lw_m10 9 rfl) rfl
theorem q2287 : (Jvm.Cond.selects "java/lang/String" ({ cls := "java/lang/String", name := "isLatin1", desc := "()Z" } : Jvm.MethodName) ({ cls := "java/lang/String", name := "isLatin1", desc := "()Z" } : Jvm.MethodName)) ∈ lw_all := lw_g (lw_at lw_m10 10 rfl) rfl
theorem q2288 : (Jvm.Cond.code ({ cls := "java/lang/String", name := "isLatin1", desc := "()Z" } : Jvm.MethodName) prog_47_method_154_code (1 : Nat) (Option.some Jvm.ClassFile.FieldType.boolean)) ∈ lw_all := lw_g (lw_at lw_m10 11 rfl) rfl
theorem q2289 : (Jvm.Cond.methodLink "java/lang/String" (495 : Nat) ({ cls := "java/lang/StringLatin1", name := "charAt", desc := "([BI)C" } : Jvm.MethodName)) ∈ lw_all := lw_g (lw_at lw_m10 12 rfl) rfl
theorem q2290 : (Jvm.Cond.static ({ cls := "java/lang/StringLatin1", name := "charAt", desc := "([BI)C" } : Jvm.MethodName)) ∈ lw_all := lw_g (lw_at lw_m10 13 rfl) rfl
theorem q2291 : (Jvm.Cond.code ({ cls := "java/lang/StringLatin1", name := "charAt", desc := "([BI)C" } : Jvm.MethodName) prog_49_method_2_code (2 : Nat) (Option.some Jvm.ClassFile.FieldType.char)) ∈ lw_all := lw_g (lw_at lw_m10 14 rfl) rfl
theorem q2292 : (Jvm.Cond.methodLink "java/lang/StringLatin1" (9 : Nat) ({ cls := "java/lang/String", name := "checkIndex", desc := "(II)V" } : Jvm.MethodName)) ∈ lw_all := lw_g (lw_at lw_m10 15 rfl) rfl
theorem q2293 : (Jvm.Cond.methodLink "java/lang/String" (498 : Nat) ({ cls := "java/lang/StringUTF16", name := "charAt", desc := "([BI)C" } : Jvm.MethodName)) ∈ lw_all := lw_g (lw_at lw_m10 16 rfl) rfl
theorem q2294 : (Jvm.Cond.static ({ cls := "java/lang/StringUTF16", name := "charAt", desc := "([BI)C" } : Jvm.MethodName)) ∈ lw_all := lw_g (lw_at lw_m10 17 rfl) rfl
theorem q2295 : (Jvm.Cond.code ({ cls := "java/lang/StringUTF16", name := "charAt", desc := "([BI)C" } : Jvm.MethodName) prog_50_method_83_code (2 : Nat) (Option.some Jvm.ClassFile.FieldType.char)) ∈ lw_all := lw_g (lw_at lw_m10 18 rfl) rfl
theorem q2296 : (Jvm.Cond.methodLink "GangColumnsLaw" (74 : Nat) ({ cls := "GangColumns", name := "keep", desc := "(IIII)I" } : Jvm.MethodName)) ∈ lw_all := lw_g (lw_at lw_m10 19 rfl) rfl
theorem q2297 : (Jvm.Cond.instanceMethod ({ cls := "GangColumns", name := "keep", desc := "(IIII)I" } : Jvm.MethodName)) ∈ lw_all := lw_g (lw_at lw_m10 20 rfl) rfl
theorem q2298 : (Jvm.Cond.selects "GangColumns" ({ cls := "GangColumns", name := "keep", desc := "(IIII)I" } : Jvm.MethodName) ({ cls := "GangColumns", name := "keep", desc := "(IIII)I" } : Jvm.MethodName)) ∈ lw_all := lw_g (lw_at lw_m10 21 rfl) rfl
theorem q2299 : (Jvm.Cond.code ({ cls := "GangColumns", name := "keep", desc := "(IIII)I" } : Jvm.MethodName) prog_1_method_26_code (5 : Nat) (Option.some Jvm.ClassFile.FieldType.int)) ∈ lw_all := lw_g (lw_at lw_m10 22 rfl) rfl
theorem q2300 : (Jvm.Cond.methodLink "GangColumns" (293 : Nat) ({ cls := "GangColumns", name := "isSpan", desc := "(IIJI)Z" } : Jvm.MethodName)) ∈ lw_all := lw_g (lw_at lw_m10 23 rfl) rfl
theorem q2301 : (Jvm.Cond.privateMethod ({ cls := "GangColumns", name := "isSpan", desc := "(IIJI)Z" } : Jvm.MethodName)) ∈ lw_tbl := lw_at lw_m10 24 rfl
theorem q2302 : (Jvm.Cond.instanceMethod ({ cls := "GangColumns", name := "isSpan", desc := "(IIJI)Z" } : Jvm.MethodName)) ∈ lw_all := lw_g (lw_at lw_m10 25 rfl) rfl
theorem q2303 : (Jvm.Cond.code ({ cls := "GangColumns", name := "isSpan", desc := "(IIJI)Z" } : Jvm.MethodName) prog_1_method_24_code (8 : Nat) (Option.some Jvm.ClassFile.FieldType.boolean)) ∈ lw_all := lw_g (lw_at lw_m10 26 rfl) rfl
theorem q2304 : (Jvm.Cond.methodLink "GangColumns" (273 : Nat) ({ cls := "GangColumns", name := "isColumn", desc := "(I)Z" } : Jvm.MethodName)) ∈ lw_all := lw_g (lw_at lw_m10 27 rfl) rfl
theorem q2305 : (Jvm.Cond.static ({ cls := "GangColumns", name := "isColumn", desc := "(I)Z" } : Jvm.MethodName)) ∈ lw_all := lw_g (lw_at lw_m10 28 rfl) rfl
theorem q2306 : (Jvm.Cond.code ({ cls := "GangColumns", name := "isColumn", desc := "(I)Z" } : Jvm.MethodName) prog_1_method_4_code (1 : Nat) (Option.some Jvm.ClassFile.FieldType.boolean)) ∈ lw_all := lw_g (lw_at lw_m10 29 rfl) rfl
theorem q2307 : (Jvm.Cond.constantLong "GangColumns" (29 : Nat) (15 : Int64)) ∈ lw_all := lw_g (lw_at lw_m10 30 rfl) rfl
theorem q2308 : (Jvm.Cond.methodLink "GangColumns" (301 : Nat) ({ cls := "java/util/TreeMap", name := "size", desc := "()I" } : Jvm.MethodName)) ∈ lw_all := lw_g (lw_at lw_m10 31 rfl) rfl
theorem q2309 : (Jvm.Cond.methodLink "GangColumns" (302 : Nat) ({ cls := "GangColumns", name := "kept", desc := "(IIII)I" } : Jvm.MethodName)) ∈ lw_all := lw_g (lw_at lw_m10 32 rfl) rfl
theorem q2310 : (Jvm.Cond.privateMethod ({ cls := "GangColumns", name := "kept", desc := "(IIII)I" } : Jvm.MethodName)) ∈ lw_tbl := lw_at lw_m10 33 rfl
theorem q2311 : (Jvm.Cond.instanceMethod ({ cls := "GangColumns", name := "kept", desc := "(IIII)I" } : Jvm.MethodName)) ∈ lw_all := lw_g (lw_at lw_m10 34 rfl) rfl
theorem q2312 : (Jvm.Cond.code ({ cls := "GangColumns", name := "kept", desc := "(IIII)I" } : Jvm.MethodName) prog_1_method_25_code (6 : Nat) (Option.some Jvm.ClassFile.FieldType.int)) ∈ lw_all := lw_g (lw_at lw_m10 35 rfl) rfl
theorem q2313 : (Jvm.Cond.classLink "GangColumns" (276 : Nat) "GangColumns$Span") ∈ lw_all := lw_g (lw_at lw_m10 36 rfl) rfl
theorem q2314 : (Jvm.Cond.instantiable "GangColumns$Span" (6 : Nat)) ∈ lw_all := lw_g (lw_at lw_m10 37 rfl) rfl
theorem q2315 : (Jvm.Cond.methodLink "GangColumns" (281 : Nat) ({ cls := "GangColumns$Span", name := "<init>", desc := "(IIIIII)V" } : Jvm.MethodName)) ∈ lw_all := lw_g (lw_at lw_m10 38 rfl) rfl
theorem q2316 : (Jvm.Cond.instanceMethod ({ cls := "GangColumns$Span", name := "<init>", desc := "(IIIIII)V" } : Jvm.MethodName)) ∈ lw_all := lw_g (lw_at lw_m10 39 rfl) rfl
theorem q2317 : (Jvm.Cond.code ({ cls := "GangColumns$Span", name := "<init>", desc := "(IIIIII)V" } : Jvm.MethodName) prog_28_method_1_code (7 : Nat) (Option.none : Option Jvm.ClassFile.FieldType)) ∈ lw_all := lw_g (lw_at lw_m10 40 rfl) rfl
theorem q2318 : (Jvm.Cond.methodLink "GangColumns$Span" (1 : Nat) ({ cls := "java/lang/Object", name := "<init>", desc := "()V" } : Jvm.MethodName)) ∈ lw_all := lw_g (lw_at lw_m10 41 rfl) rfl
theorem q2319 : (Jvm.Cond.fieldLink "GangColumns$Span" (7 : Nat) "GangColumns$Span" "number" "I") ∈ lw_all := lw_g (lw_at lw_m10 42 rfl) rfl
theorem q2320 : (Jvm.Cond.fieldLinkNest "GangColumns$Cluster" (153 : Nat) "GangColumns$Span" "number" "I" "GangColumns") ∈ lw_tbl := lw_at lw_m10 43 rfl
theorem q2321 : (Jvm.Cond.fieldLinkNest "GangColumns$Kept" (27 : Nat) "GangColumns$Span" "number" "I" "GangColumns") ∈ lw_tbl := lw_at lw_m10 44 rfl
theorem q2322 : (Jvm.Cond.fieldLinkNest "GangColumns" (292 : Nat) "GangColumns$Span" "number" "I" "GangColumns") ∈ lw_tbl := lw_at lw_m10 45 rfl
theorem q2323 : (Jvm.Cond.fieldLink "GangColumns$Span" (13 : Nat) "GangColumns$Span" "first" "I") ∈ lw_all := lw_g (lw_at lw_m10 46 rfl) rfl
theorem q2324 : (Jvm.Cond.fieldLinkNest "GangColumns$Cluster" (472 : Nat) "GangColumns$Span" "first" "I" "GangColumns") ∈ lw_tbl := lw_at lw_m10 47 rfl
theorem q2325 : (Jvm.Cond.fieldLink "GangColumns$Span" (16 : Nat) "GangColumns$Span" "last" "I") ∈ lw_all := lw_g (lw_at lw_m10 48 rfl) rfl
theorem q2326 : (Jvm.Cond.fieldLinkNest "GangColumns$Cluster" (474 : Nat) "GangColumns$Span" "last" "I" "GangColumns") ∈ lw_tbl := lw_at lw_m10 49 rfl
theorem q2327 : (Jvm.Cond.fieldLinkNest "GangColumns$Kept" (3 : Nat) "GangColumns$Span" "from" "I" "GangColumns") ∈ lw_tbl := lw_at lw_m10 50 rfl
theorem q2328 : (Jvm.Cond.fieldLink "GangColumns$Span" (19 : Nat) "GangColumns$Span" "from" "I") ∈ lw_all := lw_g (lw_at lw_m10 51 rfl) rfl
theorem q2329 : (Jvm.Cond.fieldLinkNest "GangColumns$Cluster" (477 : Nat) "GangColumns$Span" "from" "I" "GangColumns") ∈ lw_tbl := lw_at lw_m10 52 rfl
theorem q2330 : (Jvm.Cond.fieldLinkNest "GangColumns$Kept" (9 : Nat) "GangColumns$Span" "to" "I" "GangColumns") ∈ lw_tbl := lw_at lw_m10 53 rfl
theorem q2331 : (Jvm.Cond.fieldLink "GangColumns$Span" (22 : Nat) "GangColumns$Span" "to" "I") ∈ lw_all := lw_g (lw_at lw_m10 54 rfl) rfl
theorem q2332 : (Jvm.Cond.fieldLinkNest "GangColumns$Cluster" (442 : Nat) "GangColumns$Span" "to" "I" "GangColumns") ∈ lw_tbl := lw_at lw_m10 55 rfl
theorem q2333 : (Jvm.Cond.fieldLink "GangColumns$Span" (25 : Nat) "GangColumns$Span" "account" "I") ∈ lw_all := lw_g (lw_at lw_m10 56 rfl) rfl
theorem q2334 : (Jvm.Cond.fieldLinkNest "GangColumns$Kept" (24 : Nat) "GangColumns$Span" "account" "I" "GangColumns") ∈ lw_tbl := lw_at lw_m10 57 rfl
theorem q2335 : (Jvm.Cond.laysFinal "GangColumns$Span" "GangColumns$Span" "number" "I") ∈ lw_all := lw_g (lw_at lw_m10 58 rfl) rfl
theorem q2336 : (Jvm.Cond.soleField "GangColumns$Span" "number") ∈ lw_all := lw_g (lw_at lw_m10 59 rfl) rfl
theorem q2337 : (Jvm.Cond.laysFinal "GangColumns$Span" "GangColumns$Span" "first" "I") ∈ lw_all := lw_g (lw_at lw_m10 60 rfl) rfl
theorem q2338 : (Jvm.Cond.soleField "GangColumns$Span" "first") ∈ lw_all := lw_g (lw_at lw_m10 61 rfl) rfl
theorem q2339 : (Jvm.Cond.laysFinal "GangColumns$Span" "GangColumns$Span" "last" "I") ∈ lw_all := lw_g (lw_at lw_m10 62 rfl) rfl
theorem q2340 : (Jvm.Cond.soleField "GangColumns$Span" "last") ∈ lw_all := lw_g (lw_at lw_m10 63 rfl) rfl
theorem q2341 : (Jvm.Cond.laysFinal "GangColumns$Span" "GangColumns$Span" "from" "I") ∈ lw_all := lw_g (lw_at lw_m10 64 rfl) rfl
theorem q2342 : (Jvm.Cond.soleField "GangColumns$Span" "from") ∈ lw_all := lw_g (lw_at lw_m10 65 rfl) rfl
theorem q2343 : (Jvm.Cond.laysFinal "GangColumns$Span" "GangColumns$Span" "to" "I") ∈ lw_all := lw_g (lw_at lw_m10 66 rfl) rfl
theorem q2344 : (Jvm.Cond.soleField "GangColumns$Span" "to") ∈ lw_all := lw_g (lw_at lw_m10 67 rfl) rfl
theorem q2345 : (Jvm.Cond.laysFinal "GangColumns$Span" "GangColumns$Span" "account" "I") ∈ lw_all := lw_g (lw_at lw_m10 68 rfl) rfl
theorem q2346 : (Jvm.Cond.soleField "GangColumns$Span" "account") ∈ lw_all := lw_g (lw_at lw_m10 69 rfl) rfl
theorem q2347 : (Jvm.Cond.superclass "GangColumns$Span" "java/lang/Object") ∈ lw_all := lw_g (lw_at lw_m10 70 rfl) rfl
theorem q2348 : (Jvm.Cond.methodLink "GangColumns" (284 : Nat) ({ cls := "GangColumns$Cluster", name := "mayKeep", desc := "(LGangColumns$Span;)Z" } : Jvm.MethodName)) ∈ lw_all := lw_g (lw_at lw_m10 71 rfl) rfl
theorem q2349 : (Jvm.Cond.instanceMethod ({ cls := "GangColumns$Cluster", name := "mayKeep", desc := "(LGangColumns$Span;)Z" } : Jvm.MethodName)) ∈ lw_all := lw_g (lw_at lw_m10 72 rfl) rfl
theorem q2350 : (Jvm.Cond.selects "GangColumns$Cluster" ({ cls := "GangColumns$Cluster", name := "mayKeep", desc := "(LGangColumns$Span;)Z" } : Jvm.MethodName) ({ cls := "GangColumns$Cluster", name := "mayKeep", desc := "(LGangColumns$Span;)Z" } : Jvm.MethodName)) ∈ lw_all := lw_g (lw_at lw_m10 73 rfl) rfl
theorem q2351 : (Jvm.Cond.code ({ cls := "GangColumns$Cluster", name := "mayKeep", desc := "(LGangColumns$Span;)Z" } : Jvm.MethodName) prog_8_method_36_code (4 : Nat) (Option.some Jvm.ClassFile.FieldType.boolean)) ∈ lw_all := lw_g (lw_at lw_m10 74 rfl) rfl
theorem q2352 : (Jvm.Cond.methodLink "GangColumns$Cluster" (144 : Nat) ({ cls := "java/util/TreeMap", name := "values", desc := "()Ljava/util/Collection;" } : Jvm.MethodName)) ∈ lw_all := lw_g (lw_at lw_m10 75 rfl) rfl
theorem q2353 : (Jvm.Cond.interfaceEntry "GangColumns$Cluster" (148 : Nat)) ∈ lw_tbl := lw_at lw_m10 76 rfl
theorem q2354 : (Jvm.Cond.methodLink "GangColumns$Cluster" (148 : Nat) ({ cls := "java/util/Collection", name := "iterator", desc := "()Ljava/util/Iterator;" } : Jvm.MethodName)) ∈ lw_all := lw_g (lw_at lw_m10 77 rfl) rfl
theorem q2355 : (Jvm.Cond.classLink "GangColumns$Cluster" (151 : Nat) "GangColumns$Span") ∈ lw_all := lw_g (lw_at lw_m10 78 rfl) rfl
theorem q2356 : (Jvm.Cond.static ({ cls := "GangColumns$Cluster", name := "lambda$mayKeep$6", desc := "(LGangColumns$Hold;)Z" } : Jvm.MethodName)) ∈ lw_all := lw_g (lw_at lw_m10 79 rfl) rfl
theorem q2357 : (Jvm.Cond.code ({ cls := "GangColumns$Cluster", name := "lambda$mayKeep$6", desc := "(LGangColumns$Hold;)Z" } : Jvm.MethodName) prog_8_method_40_code (1 : Nat) (Option.some Jvm.ClassFile.FieldType.boolean)) ∈ lw_all := lw_g (lw_at lw_m10 80 rfl) rfl
theorem q2358 : (Jvm.Cond.methodLink "GangColumns$Cluster" (280 : Nat) ({ cls := "GangColumns$Column", name := "isFree", desc := "(IILGangColumns$Matters;)Z" } : Jvm.MethodName)) ∈ lw_all := lw_g (lw_at lw_m10 81 rfl) rfl
theorem q2359 : (Jvm.Cond.instanceMethod ({ cls := "GangColumns$Column", name := "isFree", desc := "(IILGangColumns$Matters;)Z" } : Jvm.MethodName)) ∈ lw_all := lw_g (lw_at lw_m10 82 rfl) rfl
theorem q2360 : (Jvm.Cond.selects "GangColumns$Column" ({ cls := "GangColumns$Column", name := "isFree", desc := "(IILGangColumns$Matters;)Z" } : Jvm.MethodName) ({ cls := "GangColumns$Column", name := "isFree", desc := "(IILGangColumns$Matters;)Z" } : Jvm.MethodName)) ∈ lw_all := lw_g (lw_at lw_m10 83 rfl) rfl
theorem q2361 : (Jvm.Cond.code ({ cls := "GangColumns$Column", name := "isFree", desc := "(IILGangColumns$Matters;)Z" } : Jvm.MethodName) prog_10_method_3_code (5 : Nat) (Option.some Jvm.ClassFile.FieldType.boolean)) ∈ lw_all := lw_g (lw_at lw_m10 84 rfl) rfl
theorem q2362 : (Jvm.Cond.methodLink "GangColumns$Column" (34 : Nat) ({ cls := "GangColumns$Hold", name := "meets", desc := "(II)Z" } : Jvm.MethodName)) ∈ lw_all := lw_g (lw_at lw_m10 85 rfl) rfl
theorem q2363 : (Jvm.Cond.instanceMethod ({ cls := "GangColumns$Hold", name := "meets", desc := "(II)Z" } : Jvm.MethodName)) ∈ lw_all := lw_g (lw_at lw_m10 86 rfl) rfl
theorem q2364 : (Jvm.Cond.sameMethod "GangColumns$Hold" "GangColumns$Hold" "meets" "(II)Z") ∈ lw_all := lw_g (lw_at lw_m10 87 rfl) rfl
theorem q2365 : (Jvm.Cond.selects "GangColumns$Kept" ({ cls := "GangColumns$Hold", name := "meets", desc := "(II)Z" } : Jvm.MethodName) ({ cls := "GangColumns$Hold", name := "meets", desc := "(II)Z" } : Jvm.MethodName)) ∈ lw_all := lw_g (lw_at lw_m10 88 rfl) rfl
theorem q2366 : (Jvm.Cond.selects "GangColumns$Promised" ({ cls := "GangColumns$Hold", name := "meets", desc := "(II)Z" } : Jvm.MethodName) ({ cls := "GangColumns$Hold", name := "meets", desc := "(II)Z" } : Jvm.MethodName)) ∈ lw_all := lw_g (lw_at lw_m10 89 rfl) rfl
theorem q2367 : (Jvm.Cond.selects "GangColumns$Runs" ({ cls := "GangColumns$Hold", name := "meets", desc := "(II)Z" } : Jvm.MethodName) ({ cls := "GangColumns$Hold", name := "meets", desc := "(II)Z" } : Jvm.MethodName)) ∈ lw_all := lw_g (lw_at lw_m10 90 rfl) rfl
theorem q2368 : (Jvm.Cond.code ({ cls := "GangColumns$Hold", name := "meets", desc := "(II)Z" } : Jvm.MethodName) prog_17_method_2_code (3 : Nat) (Option.some Jvm.ClassFile.FieldType.boolean)) ∈ lw_all := lw_g (lw_at lw_m10 91 rfl) rfl
theorem q2369 : (Jvm.Cond.methodLink "GangColumns" (288 : Nat) ({ cls := "GangColumns$Cluster", name := "keep", desc := "(LGangColumns$Span;)V" } : Jvm.MethodName)) ∈ lw_all := lw_g (lw_at lw_m10 92 rfl) rfl
theorem q2370 : (Jvm.Cond.instanceMethod ({ cls := "GangColumns$Cluster", name := "keep", desc := "(LGangColumns$Span;)V" } : Jvm.MethodName)) ∈ lw_all := lw_g (lw_at lw_m10 93 rfl) rfl
theorem q2371 : (Jvm.Cond.selects "GangColumns$Cluster" ({ cls := "GangColumns$Cluster", name := "keep", desc := "(LGangColumns$Span;)V" } : Jvm.MethodName) ({ cls := "GangColumns$Cluster", name := "keep", desc := "(LGangColumns$Span;)V" } : Jvm.MethodName)) ∈ lw_all := lw_g (lw_at lw_m10 94 rfl) rfl
theorem q2372 : (Jvm.Cond.code ({ cls := "GangColumns$Cluster", name := "keep", desc := "(LGangColumns$Span;)V" } : Jvm.MethodName) prog_8_method_37_code (3 : Nat) (Option.none : Option Jvm.ClassFile.FieldType)) ∈ lw_all := lw_g (lw_at lw_m10 95 rfl) rfl
theorem q2373 : (Jvm.Cond.classLink "GangColumns$Cluster" (481 : Nat) "GangColumns$Kept") ∈ lw_all := lw_g (lw_at lw_m10 96 rfl) rfl
theorem q2374 : (Jvm.Cond.instantiable "GangColumns$Kept" (3 : Nat)) ∈ lw_all := lw_g (lw_at lw_m10 97 rfl) rfl
theorem q2375 : (Jvm.Cond.methodLink "GangColumns$Cluster" (483 : Nat) ({ cls := "GangColumns$Kept", name := "<init>", desc := "(LGangColumns$Span;)V" } : Jvm.MethodName)) ∈ lw_all := lw_g (lw_at lw_m10 98 rfl) rfl
theorem q2376 : (Jvm.Cond.instanceMethod ({ cls := "GangColumns$Kept", name := "<init>", desc := "(LGangColumns$Span;)V" } : Jvm.MethodName)) ∈ lw_all := lw_g (lw_at lw_m10 99 rfl) rfl
theorem q2377 : (Jvm.Cond.code ({ cls := "GangColumns$Kept", name := "<init>", desc := "(LGangColumns$Span;)V" } : Jvm.MethodName) prog_19_method_1_code (2 : Nat) (Option.none : Option Jvm.ClassFile.FieldType)) ∈ lw_all := lw_g (lw_at lw_m10 100 rfl) rfl
theorem q2378 : (Jvm.Cond.methodLink "GangColumns$Kept" (12 : Nat) ({ cls := "GangColumns$Hold", name := "<init>", desc := "(II)V" } : Jvm.MethodName)) ∈ lw_all := lw_g (lw_at lw_m10 101 rfl) rfl
theorem q2379 : (Jvm.Cond.instanceMethod ({ cls := "GangColumns$Hold", name := "<init>", desc := "(II)V" } : Jvm.MethodName)) ∈ lw_all := lw_g (lw_at lw_m10 102 rfl) rfl
theorem q2380 : (Jvm.Cond.code ({ cls := "GangColumns$Hold", name := "<init>", desc := "(II)V" } : Jvm.MethodName) prog_17_method_1_code (3 : Nat) (Option.none : Option Jvm.ClassFile.FieldType)) ∈ lw_all := lw_g (lw_at lw_m10 103 rfl) rfl
theorem q2381 : (Jvm.Cond.methodLink "GangColumns$Hold" (1 : Nat) ({ cls := "java/lang/Object", name := "<init>", desc := "()V" } : Jvm.MethodName)) ∈ lw_all := lw_g (lw_at lw_m10 104 rfl) rfl
theorem q2382 : (Jvm.Cond.fieldLink "GangColumns$Kept" (18 : Nat) "GangColumns$Kept" "span" "LGangColumns$Span;") ∈ lw_all := lw_g (lw_at lw_m10 105 rfl) rfl
theorem q2383 : (Jvm.Cond.fieldLink "GangColumns$Hold" (7 : Nat) "GangColumns$Hold" "from" "I") ∈ lw_all := lw_g (lw_at lw_m10 106 rfl) rfl
theorem q2384 : (Jvm.Cond.fieldLinkNest "GangColumns$Column" (74 : Nat) "GangColumns$Hold" "from" "I" "GangColumns") ∈ lw_tbl := lw_at lw_m10 107 rfl
theorem q2385 : (Jvm.Cond.fieldLinkNest "GangColumns" (450 : Nat) "GangColumns$Hold" "from" "I" "GangColumns") ∈ lw_tbl := lw_at lw_m10 108 rfl
theorem q2386 : (Jvm.Cond.fieldLink "GangColumns$Hold" (13 : Nat) "GangColumns$Hold" "to" "I") ∈ lw_all := lw_g (lw_at lw_m10 109 rfl) rfl
theorem q2387 : (Jvm.Cond.fieldLinkNest "GangColumns$Column" (64 : Nat) "GangColumns$Hold" "to" "I" "GangColumns") ∈ lw_tbl := lw_at lw_m10 110 rfl
theorem q2388 : (Jvm.Cond.fieldLinkNest "GangColumns" (453 : Nat) "GangColumns$Hold" "to" "I" "GangColumns") ∈ lw_tbl := lw_at lw_m10 111 rfl
theorem q2389 : (Jvm.Cond.laysFinal "GangColumns$Kept" "GangColumns$Kept" "span" "LGangColumns$Span;") ∈ lw_all := lw_g (lw_at lw_m10 112 rfl) rfl
theorem q2390 : (Jvm.Cond.soleField "GangColumns$Kept" "span") ∈ lw_all := lw_g (lw_at lw_m10 113 rfl) rfl
theorem q2391 : (Jvm.Cond.laysFinal "GangColumns$Kept" "GangColumns$Hold" "from" "I") ∈ lw_all := lw_g (lw_at lw_m10 114 rfl) rfl
theorem q2392 : (Jvm.Cond.soleField "GangColumns$Hold" "from") ∈ lw_all := lw_g (lw_at lw_m10 115 rfl) rfl
theorem q2393 : (Jvm.Cond.laysFinal "GangColumns$Kept" "GangColumns$Hold" "to" "I") ∈ lw_all := lw_g (lw_at lw_m10 116 rfl) rfl
theorem q2394 : (Jvm.Cond.soleField "GangColumns$Hold" "to") ∈ lw_all := lw_g (lw_at lw_m10 117 rfl) rfl
theorem q2395 : (Jvm.Cond.superclass "GangColumns$Kept" "GangColumns$Hold") ∈ lw_all := lw_g (lw_at lw_m10 118 rfl) rfl
theorem q2396 : (Jvm.Cond.methodLink "GangColumns$Cluster" (345 : Nat) ({ cls := "GangColumns$Column", name := "add", desc := "(LGangColumns$Hold;)V" } : Jvm.MethodName)) ∈ lw_all := lw_g (lw_at lw_m10 119 rfl) rfl
theorem q2397 : (Jvm.Cond.instanceMethod ({ cls := "GangColumns$Column", name := "add", desc := "(LGangColumns$Hold;)V" } : Jvm.MethodName)) ∈ lw_all := lw_g (lw_at lw_m10 120 rfl) rfl
theorem q2398 : (Jvm.Cond.selects "GangColumns$Column" ({ cls := "GangColumns$Column", name := "add", desc := "(LGangColumns$Hold;)V" } : Jvm.MethodName) ({ cls := "GangColumns$Column", name := "add", desc := "(LGangColumns$Hold;)V" } : Jvm.MethodName)) ∈ lw_all := lw_g (lw_at lw_m10 121 rfl) rfl
theorem q2399 : (Jvm.Cond.code ({ cls := "GangColumns$Column", name := "add", desc := "(LGangColumns$Hold;)V" } : Jvm.MethodName) prog_10_method_2_code (3 : Nat) (Option.none : Option Jvm.ClassFile.FieldType)) ∈ lw_all := lw_g (lw_at lw_m10 122 rfl) rfl
theorem q2400 : (Jvm.Cond.methodLink "GangColumns$Column" (26 : Nat) ({ cls := "GangColumns$Hold", name := "compareTo", desc := "(LGangColumns$Hold;)I" } : Jvm.MethodName)) ∈ lw_all := lw_g (lw_at lw_m10 123 rfl) rfl
theorem q2401 : (Jvm.Cond.methodLink "GangColumns$Column" (30 : Nat) ({ cls := "java/util/ArrayList", name := "add", desc := "(ILjava/lang/Object;)V" } : Jvm.MethodName)) ∈ lw_all := lw_g (lw_at lw_m10 124 rfl) rfl
theorem q2402 : (Jvm.Cond.instanceMethod ({ cls := "java/util/ArrayList", name := "add", desc := "(ILjava/lang/Object;)V" } : Jvm.MethodName)) ∈ lw_all := lw_g (lw_at lw_m10 125 rfl) rfl
theorem q2403 : (Jvm.Cond.selects "java/util/ArrayList" ({ cls := "java/util/ArrayList", name := "add", desc := "(ILjava/lang/Object;)V" } : Jvm.MethodName) ({ cls := "java/util/ArrayList", name := "add", desc := "(ILjava/lang/Object;)V" } : Jvm.MethodName)) ∈ lw_all := lw_g (lw_at lw_m10 126 rfl) rfl
theorem q2404 : (Jvm.Cond.code ({ cls := "java/util/ArrayList", name := "add", desc := "(ILjava/lang/Object;)V" } : Jvm.MethodName) prog_61_method_26_code (5 : Nat) (Option.none : Option Jvm.ClassFile.FieldType)) ∈ lw_all := lw_g (lw_at lw_m10 127 rfl) rfl
theorem q2405 : (Jvm.Cond.methodLink "java/util/ArrayList" (135 : Nat) ({ cls := "java/util/ArrayList", name := "rangeCheckForAdd", desc := "(I)V" } : Jvm.MethodName)) ∈ lw_all := lw_g (lw_at lw_m10 128 rfl) rfl
theorem q2406 : (Jvm.Cond.privateMethod ({ cls := "java/util/ArrayList", name := "rangeCheckForAdd", desc := "(I)V" } : Jvm.MethodName)) ∈ lw_tbl := lw_at lw_m10 129 rfl
theorem q2407 : (Jvm.Cond.instanceMethod ({ cls := "java/util/ArrayList", name := "rangeCheckForAdd", desc := "(I)V" } : Jvm.MethodName)) ∈ lw_all := lw_g (lw_at lw_m10 130 rfl) rfl
theorem q2408 : (Jvm.Cond.code ({ cls := "java/util/ArrayList", name := "rangeCheckForAdd", desc := "(I)V" } : Jvm.MethodName) prog_61_method_45_code (2 : Nat) (Option.none : Option Jvm.ClassFile.FieldType)) ∈ lw_all := lw_g (lw_at lw_m10 131 rfl) rfl
theorem q2409 : (Jvm.Cond.methodLink "GangColumnsLaw" (78 : Nat) ({ cls := "GangColumns", name := "every", desc := "(IIIIII)I" } : Jvm.MethodName)) ∈ lw_all := lw_g (lw_at lw_m10 132 rfl) rfl
theorem q2410 : (Jvm.Cond.instanceMethod ({ cls := "GangColumns", name := "every", desc := "(IIIIII)I" } : Jvm.MethodName)) ∈ lw_all := lw_g (lw_at lw_m10 133 rfl) rfl
theorem q2411 : (Jvm.Cond.selects "GangColumns" ({ cls := "GangColumns", name := "every", desc := "(IIIIII)I" } : Jvm.MethodName) ({ cls := "GangColumns", name := "every", desc := "(IIIIII)I" } : Jvm.MethodName)) ∈ lw_all := lw_g (lw_at lw_m10 134 rfl) rfl
theorem q2412 : (Jvm.Cond.code ({ cls := "GangColumns", name := "every", desc := "(IIIIII)I" } : Jvm.MethodName) prog_1_method_27_code (10 : Nat) (Option.some Jvm.ClassFile.FieldType.int)) ∈ lw_all := lw_g (lw_at lw_m10 135 rfl) rfl
theorem q2413 : (Jvm.Cond.constantLong "GangColumns" (306 : Nat) (6 : Int64)) ∈ lw_all := lw_g (lw_at lw_m10 136 rfl) rfl
theorem q2414 : (Jvm.Cond.constant "GangColumns" (308 : Nat) (129999 : Int32)) ∈ lw_all := lw_g (lw_at lw_m10 137 rfl) rfl
theorem q2415 : (Jvm.Cond.constantLong "GangColumns" (309 : Nat) (129999 : Int64)) ∈ lw_all := lw_g (lw_at lw_m10 138 rfl) rfl
theorem q2416 : (Jvm.Cond.methodLink "GangColumns" (311 : Nat) ({ cls := "GangColumns", name := "givesBack", desc := "(I)V" } : Jvm.MethodName)) ∈ lw_all := lw_g (lw_at lw_m10 139 rfl) rfl
theorem q2417 : (Jvm.Cond.privateMethod ({ cls := "GangColumns", name := "givesBack", desc := "(I)V" } : Jvm.MethodName)) ∈ lw_tbl := lw_at lw_m10 140 rfl
theorem q2418 : (Jvm.Cond.instanceMethod ({ cls := "GangColumns", name := "givesBack", desc := "(I)V" } : Jvm.MethodName)) ∈ lw_all := lw_g (lw_at lw_m10 141 rfl) rfl
theorem q2419 : (Jvm.Cond.code ({ cls := "GangColumns", name := "givesBack", desc := "(I)V" } : Jvm.MethodName) prog_1_method_28_code (3 : Nat) (Option.none : Option Jvm.ClassFile.FieldType)) ∈ lw_all := lw_g (lw_at lw_m10 142 rfl) rfl
theorem q2420 : (Jvm.Cond.methodLink "GangColumns" (315 : Nat) ({ cls := "java/lang/Integer", name := "valueOf", desc := "(I)Ljava/lang/Integer;" } : Jvm.MethodName)) ∈ lw_all := lw_g (lw_at lw_m10 143 rfl) rfl
theorem q2421 : (Jvm.Cond.methodLink "GangColumns" (319 : Nat) ({ cls := "java/util/TreeMap", name := "get", desc := "(Ljava/lang/Object;)Ljava/lang/Object;" } : Jvm.MethodName)) ∈ lw_all := lw_g (lw_at lw_m10 144 rfl) rfl
theorem q2422 : (Jvm.Cond.instanceMethod ({ cls := "java/util/TreeMap", name := "get", desc := "(Ljava/lang/Object;)Ljava/lang/Object;" } : Jvm.MethodName)) ∈ lw_all := lw_g (lw_at lw_m10 145 rfl) rfl
theorem q2423 : (Jvm.Cond.selects "java/util/TreeMap" ({ cls := "java/util/TreeMap", name := "get", desc := "(Ljava/lang/Object;)Ljava/lang/Object;" } : Jvm.MethodName) ({ cls := "java/util/TreeMap", name := "get", desc := "(Ljava/lang/Object;)Ljava/lang/Object;" } : Jvm.MethodName)) ∈ lw_all := lw_g (lw_at lw_m10 146 rfl) rfl
theorem q2424 : (Jvm.Cond.code ({ cls := "java/util/TreeMap", name := "get", desc := "(Ljava/lang/Object;)Ljava/lang/Object;" } : Jvm.MethodName) prog_83_method_8_code (3 : Nat) (Option.some (Jvm.ClassFile.FieldType.object "java/lang/Object"))) ∈ lw_all := lw_g (lw_at lw_m10 147 rfl) rfl
theorem q2425 : (Jvm.Cond.methodLink "java/util/TreeMap" (50 : Nat) ({ cls := "java/util/TreeMap", name := "getEntry", desc := "(Ljava/lang/Object;)Ljava/util/TreeMap$Entry;" } : Jvm.MethodName)) ∈ lw_all := lw_g (lw_at lw_m10 148 rfl) rfl
theorem q2426 : (Jvm.Cond.instanceMethod ({ cls := "java/util/TreeMap", name := "getEntry", desc := "(Ljava/lang/Object;)Ljava/util/TreeMap$Entry;" } : Jvm.MethodName)) ∈ lw_all := lw_g (lw_at lw_m10 149 rfl) rfl
theorem q2427 : (Jvm.Cond.selects "java/util/TreeMap" ({ cls := "java/util/TreeMap", name := "getEntry", desc := "(Ljava/lang/Object;)Ljava/util/TreeMap$Entry;" } : Jvm.MethodName) ({ cls := "java/util/TreeMap", name := "getEntry", desc := "(Ljava/lang/Object;)Ljava/util/TreeMap$Entry;" } : Jvm.MethodName)) ∈ lw_all := lw_g (lw_at lw_m10 150 rfl) rfl
theorem q2428 : (Jvm.Cond.code ({ cls := "java/util/TreeMap", name := "getEntry", desc := "(Ljava/lang/Object;)Ljava/util/TreeMap$Entry;" } : Jvm.MethodName) prog_83_method_15_code (5 : Nat) (Option.some (Jvm.ClassFile.FieldType.object "java/util/TreeMap$Entry"))) ∈ lw_all := lw_g (lw_at lw_m10 151 rfl) rfl
theorem q2429 : (Jvm.Cond.methodLink "java/util/TreeMap" (92 : Nat) ({ cls := "java/util/TreeMap", name := "getEntryUsingComparator", desc := "(Ljava/lang/Object;)Ljava/util/TreeMap$Entry;" } : Jvm.MethodName)) ∈ lw_all := lw_g (lw_at lw_m10 152 rfl) rfl
theorem q2430 : (Jvm.Cond.instanceMethod ({ cls := "java/util/TreeMap", name := "getEntryUsingComparator", desc := "(Ljava/lang/Object;)Ljava/util/TreeMap$Entry;" } : Jvm.MethodName)) ∈ lw_all := lw_g (lw_at lw_m10 153 rfl) rfl
theorem q2431 : (Jvm.Cond.selects "java/util/TreeMap" ({ cls := "java/util/TreeMap", name := "getEntryUsingComparator", desc := "(Ljava/lang/Object;)Ljava/util/TreeMap$Entry;" } : Jvm.MethodName) ({ cls := "java/util/TreeMap", name := "getEntryUsingComparator", desc := "(Ljava/lang/Object;)Ljava/util/TreeMap$Entry;" } : Jvm.MethodName)) ∈ lw_all := lw_g (lw_at lw_m10 154 rfl) rfl
theorem q2432 : (Jvm.Cond.code ({ cls := "java/util/TreeMap", name := "getEntryUsingComparator", desc := "(Ljava/lang/Object;)Ljava/util/TreeMap$Entry;" } : Jvm.MethodName) prog_83_method_16_code (6 : Nat) (Option.some (Jvm.ClassFile.FieldType.object "java/util/TreeMap$Entry"))) ∈ lw_all := lw_g (lw_at lw_m10 155 rfl) rfl
theorem q2433 : (Jvm.Cond.methodLinkNest "GangColumns" (322 : Nat) ({ cls := "GangColumns$Cluster", name := "letsSpan", desc := "(LGangColumns$Span;)V" } : Jvm.MethodName) "GangColumns") ∈ lw_tbl := lw_at lw_m10 156 rfl
theorem q2434 : (Jvm.Cond.privateMethod ({ cls := "GangColumns$Cluster", name := "letsSpan", desc := "(LGangColumns$Span;)V" } : Jvm.MethodName)) ∈ lw_tbl := lw_at lw_m10 157 rfl
theorem q2435 : (Jvm.Cond.instanceMethod ({ cls := "GangColumns$Cluster", name := "letsSpan", desc := "(LGangColumns$Span;)V" } : Jvm.MethodName)) ∈ lw_all := lw_g (lw_at lw_m10 158 rfl) rfl
theorem q2436 : (Jvm.Cond.code ({ cls := "GangColumns$Cluster", name := "letsSpan", desc := "(LGangColumns$Span;)V" } : Jvm.MethodName) prog_8_method_32_code (2 : Nat) (Option.none : Option Jvm.ClassFile.FieldType)) ∈ lw_all := lw_g (lw_at lw_m10 159 rfl) rfl
theorem q2437 : (Jvm.Cond.static ({ cls := "GangColumns$Cluster", name := "lambda$letsSpan$4", desc := "(LGangColumns$Span;LGangColumns$Hold;)Z" } : Jvm.MethodName)) ∈ lw_all := lw_g (lw_at lw_m10 160 rfl) rfl
theorem q2438 : (Jvm.Cond.code ({ cls := "GangColumns$Cluster", name := "lambda$letsSpan$4", desc := "(LGangColumns$Span;LGangColumns$Hold;)Z" } : Jvm.MethodName) prog_8_method_42_code (2 : Nat) (Option.some Jvm.ClassFile.FieldType.boolean)) ∈ lw_all := lw_g (lw_at lw_m10 161 rfl) rfl
theorem q2439 : (Jvm.Cond.methodLink "GangColumns" (325 : Nat) ({ cls := "java/util/TreeMap", name := "remove", desc := "(Ljava/lang/Object;)Ljava/lang/Object;" } : Jvm.MethodName)) ∈ lw_all := lw_g (lw_at lw_m10 162 rfl) rfl
theorem q2440 : (Jvm.Cond.instanceMethod ({ cls := "java/util/TreeMap", name := "remove", desc := "(Ljava/lang/Object;)Ljava/lang/Object;" } : Jvm.MethodName)) ∈ lw_all := lw_g (lw_at lw_m10 163 rfl) rfl
theorem q2441 : (Jvm.Cond.selects "java/util/TreeMap" ({ cls := "java/util/TreeMap", name := "remove", desc := "(Ljava/lang/Object;)Ljava/lang/Object;" } : Jvm.MethodName) ({ cls := "java/util/TreeMap", name := "remove", desc := "(Ljava/lang/Object;)Ljava/lang/Object;" } : Jvm.MethodName)) ∈ lw_all := lw_g (lw_at lw_m10 164 rfl) rfl
theorem q2442 : (Jvm.Cond.code ({ cls := "java/util/TreeMap", name := "remove", desc := "(Ljava/lang/Object;)Ljava/lang/Object;" } : Jvm.MethodName) prog_83_method_34_code (4 : Nat) (Option.some (Jvm.ClassFile.FieldType.object "java/lang/Object"))) ∈ lw_all := lw_g (lw_at lw_m10 165 rfl) rfl
theorem q2443 : (Jvm.Cond.methodLink "java/util/TreeMap" (174 : Nat) ({ cls := "java/util/TreeMap", name := "deleteEntry", desc := "(Ljava/util/TreeMap$Entry;)V" } : Jvm.MethodName)) ∈ lw_all := lw_g (lw_at lw_m10 166 rfl) rfl
theorem q2444 : (Jvm.Cond.privateMethod ({ cls := "java/util/TreeMap", name := "deleteEntry", desc := "(Ljava/util/TreeMap$Entry;)V" } : Jvm.MethodName)) ∈ lw_tbl := lw_at lw_m10 167 rfl
theorem q2445 : (Jvm.Cond.instanceMethod ({ cls := "java/util/TreeMap", name := "deleteEntry", desc := "(Ljava/util/TreeMap$Entry;)V" } : Jvm.MethodName)) ∈ lw_all := lw_g (lw_at lw_m10 168 rfl) rfl
theorem q2446 : (Jvm.Cond.code ({ cls := "java/util/TreeMap", name := "deleteEntry", desc := "(Ljava/util/TreeMap$Entry;)V" } : Jvm.MethodName) prog_83_method_84_code (3 : Nat) (Option.none : Option Jvm.ClassFile.FieldType)) ∈ lw_all := lw_g (lw_at lw_m10 169 rfl) rfl
theorem q2447 : (Jvm.Cond.methodLink "java/util/TreeMap" (68 : Nat) ({ cls := "java/util/TreeMap", name := "successor", desc := "(Ljava/util/TreeMap$Entry;)Ljava/util/TreeMap$Entry;" } : Jvm.MethodName)) ∈ lw_all := lw_g (lw_at lw_m10 170 rfl) rfl
theorem q2448 : (Jvm.Cond.methodLink "java/util/TreeMap" (317 : Nat) ({ cls := "java/util/TreeMap", name := "fixAfterDeletion", desc := "(Ljava/util/TreeMap$Entry;)V" } : Jvm.MethodName)) ∈ lw_all := lw_g (lw_at lw_m10 171 rfl) rfl
theorem q2449 : (Jvm.Cond.privateMethod ({ cls := "java/util/TreeMap", name := "fixAfterDeletion", desc := "(Ljava/util/TreeMap$Entry;)V" } : Jvm.MethodName)) ∈ lw_tbl := lw_at lw_m10 172 rfl
theorem q2450 : (Jvm.Cond.instanceMethod ({ cls := "java/util/TreeMap", name := "fixAfterDeletion", desc := "(Ljava/util/TreeMap$Entry;)V" } : Jvm.MethodName)) ∈ lw_all := lw_g (lw_at lw_m10 173 rfl) rfl
theorem q2451 : (Jvm.Cond.code ({ cls := "java/util/TreeMap", name := "fixAfterDeletion", desc := "(Ljava/util/TreeMap$Entry;)V" } : Jvm.MethodName) prog_83_method_85_code (3 : Nat) (Option.none : Option Jvm.ClassFile.FieldType)) ∈ lw_all := lw_g (lw_at lw_m10 174 rfl) rfl
theorem q2452 : (Jvm.Cond.methodLink "GangColumnsLaw" (83 : Nat) ({ cls := "GangColumns", name := "free", desc := "(I)I" } : Jvm.MethodName)) ∈ lw_all := lw_g (lw_at lw_m10 175 rfl) rfl
theorem q2453 : (Jvm.Cond.instanceMethod ({ cls := "GangColumns", name := "free", desc := "(I)I" } : Jvm.MethodName)) ∈ lw_all := lw_g (lw_at lw_m10 176 rfl) rfl
theorem q2454 : (Jvm.Cond.selects "GangColumns" ({ cls := "GangColumns", name := "free", desc := "(I)I" } : Jvm.MethodName) ({ cls := "GangColumns", name := "free", desc := "(I)I" } : Jvm.MethodName)) ∈ lw_all := lw_g (lw_at lw_m10 177 rfl) rfl
theorem q2455 : (Jvm.Cond.code ({ cls := "GangColumns", name := "free", desc := "(I)I" } : Jvm.MethodName) prog_1_method_29_code (3 : Nat) (Option.some Jvm.ClassFile.FieldType.int)) ∈ lw_all := lw_g (lw_at lw_m10 178 rfl) rfl
theorem q2456 : (Jvm.Cond.methodLink "GangColumnsLaw" (87 : Nat) ({ cls := "GangColumns", name := "step", desc := "(I)I" } : Jvm.MethodName)) ∈ lw_all := lw_g (lw_at lw_m10 179 rfl) rfl
theorem q2457 : (Jvm.Cond.instanceMethod ({ cls := "GangColumns", name := "step", desc := "(I)I" } : Jvm.MethodName)) ∈ lw_all := lw_g (lw_at lw_m10 180 rfl) rfl
theorem q2458 : (Jvm.Cond.selects "GangColumns" ({ cls := "GangColumns", name := "step", desc := "(I)I" } : Jvm.MethodName) ({ cls := "GangColumns", name := "step", desc := "(I)I" } : Jvm.MethodName)) ∈ lw_all := lw_g (lw_at lw_m10 181 rfl) rfl
theorem q2459 : (Jvm.Cond.code ({ cls := "GangColumns", name := "step", desc := "(I)I" } : Jvm.MethodName) prog_1_method_31_code (3 : Nat) (Option.some Jvm.ClassFile.FieldType.int)) ∈ lw_all := lw_g (lw_at lw_m10 182 rfl) rfl
theorem q2460 : (Jvm.Cond.constant "GangColumns" (328 : Nat) (99999 : Int32)) ∈ lw_all := lw_g (lw_at lw_m10 183 rfl) rfl
theorem q2461 : (Jvm.Cond.static ({ cls := "GangColumns", name := "nothing", desc := "(LGangColumns$Job;)V" } : Jvm.MethodName)) ∈ lw_all := lw_g (lw_at lw_m10 184 rfl) rfl
theorem q2462 : (Jvm.Cond.code ({ cls := "GangColumns", name := "nothing", desc := "(LGangColumns$Job;)V" } : Jvm.MethodName) prog_1_method_30_code (1 : Nat) (Option.none : Option Jvm.ClassFile.FieldType)) ∈ lw_all := lw_g (lw_at lw_m10 185 rfl) rfl
theorem q2463 : (Jvm.Cond.methodLink "GangColumns" (333 : Nat) ({ cls := "GangColumns$Cluster", name := "tick", desc := "(LGangColumns$Starts;)V" } : Jvm.MethodName)) ∈ lw_all := lw_g (lw_at lw_m10 186 rfl) rfl
theorem q2464 : (Jvm.Cond.instanceMethod ({ cls := "GangColumns$Cluster", name := "tick", desc := "(LGangColumns$Starts;)V" } : Jvm.MethodName)) ∈ lw_all := lw_g (lw_at lw_m10 187 rfl) rfl
theorem q2465 : (Jvm.Cond.selects "GangColumns$Cluster" ({ cls := "GangColumns$Cluster", name := "tick", desc := "(LGangColumns$Starts;)V" } : Jvm.MethodName) ({ cls := "GangColumns$Cluster", name := "tick", desc := "(LGangColumns$Starts;)V" } : Jvm.MethodName)) ∈ lw_all := lw_g (lw_at lw_m10 188 rfl) rfl
theorem q2466 : (Jvm.Cond.code ({ cls := "GangColumns$Cluster", name := "tick", desc := "(LGangColumns$Starts;)V" } : Jvm.MethodName) prog_8_method_30_code (3 : Nat) (Option.none : Option Jvm.ClassFile.FieldType)) ∈ lw_all := lw_g (lw_at lw_m10 189 rfl) rfl
theorem q2467 : (Jvm.Cond.methodLink "GangColumns$Cluster" (414 : Nat) ({ cls := "GangColumns$Cluster", name := "pass", desc := "(LGangColumns$Starts;)I" } : Jvm.MethodName)) ∈ lw_all := lw_g (lw_at lw_m10 190 rfl) rfl
theorem q2468 : (Jvm.Cond.instanceMethod ({ cls := "GangColumns$Cluster", name := "pass", desc := "(LGangColumns$Starts;)I" } : Jvm.MethodName)) ∈ lw_all := lw_g (lw_at lw_m10 191 rfl) rfl
theorem q2469 : (Jvm.Cond.selects "GangColumns$Cluster" ({ cls := "GangColumns$Cluster", name := "pass", desc := "(LGangColumns$Starts;)I" } : Jvm.MethodName) ({ cls := "GangColumns$Cluster", name := "pass", desc := "(LGangColumns$Starts;)I" } : Jvm.MethodName)) ∈ lw_all := lw_g (lw_at lw_m10 192 rfl) rfl
theorem q2470 : (Jvm.Cond.code ({ cls := "GangColumns$Cluster", name := "pass", desc := "(LGangColumns$Starts;)I" } : Jvm.MethodName) prog_8_method_24_code (7 : Nat) (Option.some Jvm.ClassFile.FieldType.int)) ∈ lw_all := lw_g (lw_at lw_m10 193 rfl) rfl
theorem q2471 : (Jvm.Cond.static ({ cls := "GangColumns$Cluster", name := "lambda$pass$2", desc := "(LGangColumns$Hold;)Z" } : Jvm.MethodName)) ∈ lw_all := lw_g (lw_at lw_m10 194 rfl) rfl
theorem q2472 : (Jvm.Cond.code ({ cls := "GangColumns$Cluster", name := "lambda$pass$2", desc := "(LGangColumns$Hold;)Z" } : Jvm.MethodName) prog_8_method_44_code (1 : Nat) (Option.some Jvm.ClassFile.FieldType.boolean)) ∈ lw_all := lw_g (lw_at lw_m10 195 rfl) rfl
theorem q2473 : (Jvm.Cond.methodLink "GangColumns$Cluster" (377 : Nat) ({ cls := "GangColumns$Promises", name := "clear", desc := "()V" } : Jvm.MethodName)) ∈ lw_all := lw_g (lw_at lw_m10 196 rfl) rfl
theorem q2474 : (Jvm.Cond.methodLink "GangColumns$Cluster" (380 : Nat) ({ cls := "GangColumns$Cluster", name := "lineUp", desc := "()V" } : Jvm.MethodName)) ∈ lw_all := lw_g (lw_at lw_m10 197 rfl) rfl
theorem q2475 : (Jvm.Cond.privateMethod ({ cls := "GangColumns$Cluster", name := "lineUp", desc := "()V" } : Jvm.MethodName)) ∈ lw_tbl := lw_at lw_m10 198 rfl
theorem q2476 : (Jvm.Cond.instanceMethod ({ cls := "GangColumns$Cluster", name := "lineUp", desc := "()V" } : Jvm.MethodName)) ∈ lw_all := lw_g (lw_at lw_m10 199 rfl) rfl
theorem q2477 : (Jvm.Cond.code ({ cls := "GangColumns$Cluster", name := "lineUp", desc := "()V" } : Jvm.MethodName) prog_8_method_9_code (4 : Nat) (Option.none : Option Jvm.ClassFile.FieldType)) ∈ lw_all := lw_g (lw_at lw_m10 200 rfl) rfl
theorem q2478 : (Jvm.Cond.methodLink "GangColumns$Cluster" (272 : Nat) ({ cls := "GangColumns$Cluster$InLine", name := "compare", desc := "(LGangColumns$Job;LGangColumns$Job;)I" } : Jvm.MethodName)) ∈ lw_all := lw_g (lw_at lw_m10 201 rfl) rfl
theorem q2479 : (Jvm.Cond.methodLink "GangColumns$Cluster" (383 : Nat) ({ cls := "GangColumns$Cluster", name := "isBarred", desc := "(LGangColumns$Job;)Z" } : Jvm.MethodName)) ∈ lw_all := lw_g (lw_at lw_m10 202 rfl) rfl
theorem q2480 : (Jvm.Cond.privateMethod ({ cls := "GangColumns$Cluster", name := "isBarred", desc := "(LGangColumns$Job;)Z" } : Jvm.MethodName)) ∈ lw_tbl := lw_at lw_m10 203 rfl
theorem q2481 : (Jvm.Cond.instanceMethod ({ cls := "GangColumns$Cluster", name := "isBarred", desc := "(LGangColumns$Job;)Z" } : Jvm.MethodName)) ∈ lw_all := lw_g (lw_at lw_m10 204 rfl) rfl
theorem q2482 : (Jvm.Cond.code ({ cls := "GangColumns$Cluster", name := "isBarred", desc := "(LGangColumns$Job;)Z" } : Jvm.MethodName) prog_8_method_7_code (5 : Nat) (Option.some Jvm.ClassFile.FieldType.boolean)) ∈ lw_all := lw_g (lw_at lw_m10 205 rfl) rfl
theorem q2483 : (Jvm.Cond.methodLink "GangColumns$Cluster" (251 : Nat) ({ cls := "GangColumns$Job", name := "columns", desc := "()I" } : Jvm.MethodName)) ∈ lw_all := lw_g (lw_at lw_m10 206 rfl) rfl
theorem q2484 : (Jvm.Cond.methodLink "GangColumns$Cluster" (386 : Nat) ({ cls := "GangColumns$Cluster", name := "fits", desc := "(LGangColumns$Job;I)Z" } : Jvm.MethodName)) ∈ lw_all := lw_g (lw_at lw_m10 207 rfl) rfl
theorem q2485 : (Jvm.Cond.instanceMethod ({ cls := "GangColumns$Cluster", name := "fits", desc := "(LGangColumns$Job;I)Z" } : Jvm.MethodName)) ∈ lw_all := lw_g (lw_at lw_m10 208 rfl) rfl
theorem q2486 : (Jvm.Cond.selects "GangColumns$Cluster" ({ cls := "GangColumns$Cluster", name := "fits", desc := "(LGangColumns$Job;I)Z" } : Jvm.MethodName) ({ cls := "GangColumns$Cluster", name := "fits", desc := "(LGangColumns$Job;I)Z" } : Jvm.MethodName)) ∈ lw_all := lw_g (lw_at lw_m10 209 rfl) rfl
theorem q2487 : (Jvm.Cond.code ({ cls := "GangColumns$Cluster", name := "fits", desc := "(LGangColumns$Job;I)Z" } : Jvm.MethodName) prog_8_method_17_code (3 : Nat) (Option.some Jvm.ClassFile.FieldType.boolean)) ∈ lw_all := lw_g (lw_at lw_m10 210 rfl) rfl
theorem q2488 : (Jvm.Cond.static ({ cls := "GangColumns$Cluster", name := "lambda$fits$0", desc := "(LGangColumns$Job;LGangColumns$Hold;)Z" } : Jvm.MethodName)) ∈ lw_all := lw_g (lw_at lw_m10 211 rfl) rfl
theorem q2489 : (Jvm.Cond.code ({ cls := "GangColumns$Cluster", name := "lambda$fits$0", desc := "(LGangColumns$Job;LGangColumns$Hold;)Z" } : Jvm.MethodName) prog_8_method_46_code (2 : Nat) (Option.some Jvm.ClassFile.FieldType.boolean)) ∈ lw_all := lw_g (lw_at lw_m10 212 rfl) rfl
theorem q2490 : (Jvm.Cond.methodLink "GangColumns$Cluster" (489 : Nat) ({ cls := "GangColumns$Hold", name := "hinders", desc := "(I)Z" } : Jvm.MethodName)) ∈ lw_all := lw_g (lw_at lw_m10 213 rfl) rfl
theorem q2491 : (Jvm.Cond.declares ({ cls := "GangColumns$Hold", name := "hinders", desc := "(I)Z" } : Jvm.MethodName)) ∈ lw_tbl := lw_at lw_m10 214 rfl
theorem q2492 : (Jvm.Cond.sameMethod "GangColumns$Hold" "GangColumns$Hold" "hinders" "(I)Z") ∈ lw_all := lw_g (lw_at lw_m10 215 rfl) rfl
theorem q2493 : (Jvm.Cond.selects "GangColumns$Kept" ({ cls := "GangColumns$Hold", name := "hinders", desc := "(I)Z" } : Jvm.MethodName) ({ cls := "GangColumns$Kept", name := "hinders", desc := "(I)Z" } : Jvm.MethodName)) ∈ lw_all := lw_g (lw_at lw_m10 216 rfl) rfl
theorem q2494 : (Jvm.Cond.instanceMethod ({ cls := "GangColumns$Kept", name := "hinders", desc := "(I)Z" } : Jvm.MethodName)) ∈ lw_all := lw_g (lw_at lw_m10 217 rfl) rfl
theorem q2495 : (Jvm.Cond.code ({ cls := "GangColumns$Kept", name := "hinders", desc := "(I)Z" } : Jvm.MethodName) prog_19_method_2_code (2 : Nat) (Option.some Jvm.ClassFile.FieldType.boolean)) ∈ lw_all := lw_g (lw_at lw_m10 218 rfl) rfl
theorem q2496 : (Jvm.Cond.selects "GangColumns$Promised" ({ cls := "GangColumns$Hold", name := "hinders", desc := "(I)Z" } : Jvm.MethodName) ({ cls := "GangColumns$Promised", name := "hinders", desc := "(I)Z" } : Jvm.MethodName)) ∈ lw_all := lw_g (lw_at lw_m10 219 rfl) rfl
theorem q2497 : (Jvm.Cond.instanceMethod ({ cls := "GangColumns$Promised", name := "hinders", desc := "(I)Z" } : Jvm.MethodName)) ∈ lw_all := lw_g (lw_at lw_m10 220 rfl) rfl
theorem q2498 : (Jvm.Cond.code ({ cls := "GangColumns$Promised", name := "hinders", desc := "(I)Z" } : Jvm.MethodName) prog_23_method_2_code (2 : Nat) (Option.some Jvm.ClassFile.FieldType.boolean)) ∈ lw_all := lw_g (lw_at lw_m10 221 rfl) rfl
theorem q2499 : (Jvm.Cond.selects "GangColumns$Runs" ({ cls := "GangColumns$Hold", name := "hinders", desc := "(I)Z" } : Jvm.MethodName) ({ cls := "GangColumns$Runs", name := "hinders", desc := "(I)Z" } : Jvm.MethodName)) ∈ lw_all := lw_g (lw_at lw_m10 222 rfl) rfl
theorem q2500 : (Jvm.Cond.instanceMethod ({ cls := "GangColumns$Runs", name := "hinders", desc := "(I)Z" } : Jvm.MethodName)) ∈ lw_all := lw_g (lw_at lw_m10 223 rfl) rfl
theorem q2501 : (Jvm.Cond.code ({ cls := "GangColumns$Runs", name := "hinders", desc := "(I)Z" } : Jvm.MethodName) prog_26_method_2_code (2 : Nat) (Option.some Jvm.ClassFile.FieldType.boolean)) ∈ lw_all := lw_g (lw_at lw_m10 224 rfl) rfl
theorem q2502 : (Jvm.Cond.methodLink "GangColumns$Cluster" (308 : Nat) ({ cls := "GangColumns$Cluster", name := "fits", desc := "(LGangColumns$Job;ILGangColumns$Matters;)Z" } : Jvm.MethodName)) ∈ lw_all := lw_g (lw_at lw_m10 225 rfl) rfl
theorem q2503 : (Jvm.Cond.instanceMethod ({ cls := "GangColumns$Cluster", name := "fits", desc := "(LGangColumns$Job;ILGangColumns$Matters;)Z" } : Jvm.MethodName)) ∈ lw_all := lw_g (lw_at lw_m10 226 rfl) rfl
theorem q2504 : (Jvm.Cond.selects "GangColumns$Cluster" ({ cls := "GangColumns$Cluster", name := "fits", desc := "(LGangColumns$Job;ILGangColumns$Matters;)Z" } : Jvm.MethodName) ({ cls := "GangColumns$Cluster", name := "fits", desc := "(LGangColumns$Job;ILGangColumns$Matters;)Z" } : Jvm.MethodName)) ∈ lw_all := lw_g (lw_at lw_m10 227 rfl) rfl
theorem q2505 : (Jvm.Cond.code ({ cls := "GangColumns$Cluster", name := "fits", desc := "(LGangColumns$Job;ILGangColumns$Matters;)Z" } : Jvm.MethodName) prog_8_method_16_code (4 : Nat) (Option.some Jvm.ClassFile.FieldType.boolean)) ∈ lw_all := lw_g (lw_at lw_m10 228 rfl) rfl
theorem q2506 : (Jvm.Cond.methodLink "GangColumns$Cluster" (298 : Nat) ({ cls := "GangColumns$Cluster", name := "takesNone", desc := "()V" } : Jvm.MethodName)) ∈ lw_all := lw_g (lw_at lw_m10 229 rfl) rfl
theorem q2507 : (Jvm.Cond.privateMethod ({ cls := "GangColumns$Cluster", name := "takesNone", desc := "()V" } : Jvm.MethodName)) ∈ lw_tbl := lw_at lw_m10 230 rfl
theorem q2508 : (Jvm.Cond.instanceMethod ({ cls := "GangColumns$Cluster", name := "takesNone", desc := "()V" } : Jvm.MethodName)) ∈ lw_all := lw_g (lw_at lw_m10 231 rfl) rfl
theorem q2509 : (Jvm.Cond.code ({ cls := "GangColumns$Cluster", name := "takesNone", desc := "()V" } : Jvm.MethodName) prog_8_method_11_code (2 : Nat) (Option.none : Option Jvm.ClassFile.FieldType)) ∈ lw_all := lw_g (lw_at lw_m10 232 rfl) rfl
theorem q2510 : (Jvm.Cond.methodLink "GangColumns$Cluster" (301 : Nat) ({ cls := "GangColumns$Cluster", name := "takes", desc := "(LGangColumns$Job;ILGangColumns$Matters;)Z" } : Jvm.MethodName)) ∈ lw_all := lw_g (lw_at lw_m10 233 rfl) rfl
theorem q2511 : (Jvm.Cond.privateMethod ({ cls := "GangColumns$Cluster", name := "takes", desc := "(LGangColumns$Job;ILGangColumns$Matters;)Z" } : Jvm.MethodName)) ∈ lw_tbl := lw_at lw_m10 234 rfl
theorem q2512 : (Jvm.Cond.instanceMethod ({ cls := "GangColumns$Cluster", name := "takes", desc := "(LGangColumns$Job;ILGangColumns$Matters;)Z" } : Jvm.MethodName)) ∈ lw_all := lw_g (lw_at lw_m10 235 rfl) rfl
theorem q2513 : (Jvm.Cond.code ({ cls := "GangColumns$Cluster", name := "takes", desc := "(LGangColumns$Job;ILGangColumns$Matters;)Z" } : Jvm.MethodName) prog_8_method_15_code (8 : Nat) (Option.some Jvm.ClassFile.FieldType.boolean)) ∈ lw_all := lw_g (lw_at lw_m10 236 rfl) rfl
theorem q2514 : (Jvm.Cond.methodLink "GangColumns$Cluster" (287 : Nat) ({ cls := "GangColumns$Cluster", name := "takes", desc := "(LGangColumns$Arm;ILGangColumns$Matters;)Z" } : Jvm.MethodName)) ∈ lw_all := lw_g (lw_at lw_m10 237 rfl) rfl
theorem q2515 : (Jvm.Cond.privateMethod ({ cls := "GangColumns$Cluster", name := "takes", desc := "(LGangColumns$Arm;ILGangColumns$Matters;)Z" } : Jvm.MethodName)) ∈ lw_tbl := lw_at lw_m10 238 rfl
theorem q2516 : (Jvm.Cond.instanceMethod ({ cls := "GangColumns$Cluster", name := "takes", desc := "(LGangColumns$Arm;ILGangColumns$Matters;)Z" } : Jvm.MethodName)) ∈ lw_all := lw_g (lw_at lw_m10 239 rfl) rfl
theorem q2517 : (Jvm.Cond.code ({ cls := "GangColumns$Cluster", name := "takes", desc := "(LGangColumns$Arm;ILGangColumns$Matters;)Z" } : Jvm.MethodName) prog_8_method_14_code (6 : Nat) (Option.some Jvm.ClassFile.FieldType.boolean)) ∈ lw_all := lw_g (lw_at lw_m11 0 rfl) rfl
theorem q2518 : (Jvm.Cond.methodLink "GangColumns$Cluster" (291 : Nat) ({ cls := "GangColumns$Cluster", name := "runFor", desc := "(LGangColumns$Arm;ILGangColumns$Matters;)I" } : Jvm.MethodName)) ∈ lw_all := lw_g (lw_at lw_m11 1 rfl) rfl
theorem q2519 : (Jvm.Cond.privateMethod ({ cls := "GangColumns$Cluster", name := "runFor", desc := "(LGangColumns$Arm;ILGangColumns$Matters;)I" } : Jvm.MethodName)) ∈ lw_tbl := lw_at lw_m11 2 rfl
theorem q2520 : (Jvm.Cond.instanceMethod ({ cls := "GangColumns$Cluster", name := "runFor", desc := "(LGangColumns$Arm;ILGangColumns$Matters;)I" } : Jvm.MethodName)) ∈ lw_all := lw_g (lw_at lw_m11 3 rfl) rfl
theorem q2521 : (Jvm.Cond.code ({ cls := "GangColumns$Cluster", name := "runFor", desc := "(LGangColumns$Arm;ILGangColumns$Matters;)I" } : Jvm.MethodName) prog_8_method_12_code (8 : Nat) (Option.some Jvm.ClassFile.FieldType.int)) ∈ lw_all := lw_g (lw_at lw_m11 4 rfl) rfl
theorem q2522 : (Jvm.Cond.methodLink "GangColumns$Cluster" (389 : Nat) ({ cls := "GangColumns$Cluster", name := "starts", desc := "(LGangColumns$Job;)V" } : Jvm.MethodName)) ∈ lw_all := lw_g (lw_at lw_m11 5 rfl) rfl
theorem q2523 : (Jvm.Cond.privateMethod ({ cls := "GangColumns$Cluster", name := "starts", desc := "(LGangColumns$Job;)V" } : Jvm.MethodName)) ∈ lw_tbl := lw_at lw_m11 6 rfl
theorem q2524 : (Jvm.Cond.instanceMethod ({ cls := "GangColumns$Cluster", name := "starts", desc := "(LGangColumns$Job;)V" } : Jvm.MethodName)) ∈ lw_all := lw_g (lw_at lw_m11 7 rfl) rfl
theorem q2525 : (Jvm.Cond.code ({ cls := "GangColumns$Cluster", name := "starts", desc := "(LGangColumns$Job;)V" } : Jvm.MethodName) prog_8_method_22_code (8 : Nat) (Option.none : Option Jvm.ClassFile.FieldType)) ∈ lw_all := lw_g (lw_at lw_m11 8 rfl) rfl
theorem q2526 : (Jvm.Cond.methodLink "GangColumns$Cluster" (338 : Nat) ({ cls := "GangColumns$Arm", name := "lasts", desc := "(I)I" } : Jvm.MethodName)) ∈ lw_all := lw_g (lw_at lw_m11 9 rfl) rfl
theorem q2527 : (Jvm.Cond.methodLink "GangColumns$Cluster" (321 : Nat) ({ cls := "java/lang/Math", name := "min", desc := "(II)I" } : Jvm.MethodName)) ∈ lw_all := lw_g (lw_at lw_m11 10 rfl) rfl
theorem q2528 : (Jvm.Cond.instantiable "GangColumns$Going" (2 : Nat)) ∈ lw_all := lw_g (lw_at lw_m11 11 rfl) rfl
theorem q2529 : (Jvm.Cond.methodLink "GangColumns$Cluster" (189 : Nat) ({ cls := "GangColumns$Going", name := "<init>", desc := "(LGangColumns$Job;LGangColumns$Arm;)V" } : Jvm.MethodName)) ∈ lw_all := lw_g (lw_at lw_m11 12 rfl) rfl
theorem q2530 : (Jvm.Cond.instanceMethod ({ cls := "GangColumns$Going", name := "<init>", desc := "(LGangColumns$Job;LGangColumns$Arm;)V" } : Jvm.MethodName)) ∈ lw_all := lw_g (lw_at lw_m11 13 rfl) rfl
theorem q2531 : (Jvm.Cond.code ({ cls := "GangColumns$Going", name := "<init>", desc := "(LGangColumns$Job;LGangColumns$Arm;)V" } : Jvm.MethodName) prog_16_method_1_code (3 : Nat) (Option.none : Option Jvm.ClassFile.FieldType)) ∈ lw_all := lw_g (lw_at lw_m11 14 rfl) rfl
theorem q2532 : (Jvm.Cond.methodLink "GangColumns$Going" (1 : Nat) ({ cls := "java/lang/Object", name := "<init>", desc := "()V" } : Jvm.MethodName)) ∈ lw_all := lw_g (lw_at lw_m11 15 rfl) rfl
theorem q2533 : (Jvm.Cond.fieldLink "GangColumns$Going" (7 : Nat) "GangColumns$Going" "job" "LGangColumns$Job;") ∈ lw_all := lw_g (lw_at lw_m11 16 rfl) rfl
theorem q2534 : (Jvm.Cond.fieldLinkNest "GangColumns$WidestGoing" (19 : Nat) "GangColumns$Going" "job" "LGangColumns$Job;" "GangColumns") ∈ lw_tbl := lw_at lw_m11 17 rfl
theorem q2535 : (Jvm.Cond.fieldLinkNest "GangColumns$ByEnd" (19 : Nat) "GangColumns$Going" "job" "LGangColumns$Job;" "GangColumns") ∈ lw_tbl := lw_at lw_m11 18 rfl
theorem q2536 : (Jvm.Cond.fieldLinkNest "GangColumns$Moves" (69 : Nat) "GangColumns$Going" "job" "LGangColumns$Job;" "GangColumns") ∈ lw_tbl := lw_at lw_m11 19 rfl
theorem q2537 : (Jvm.Cond.fieldLinkNest "GangColumns$Cluster" (174 : Nat) "GangColumns$Going" "job" "LGangColumns$Job;" "GangColumns") ∈ lw_tbl := lw_at lw_m11 20 rfl
theorem q2538 : (Jvm.Cond.fieldLink "GangColumns$Going" (13 : Nat) "GangColumns$Going" "arm" "LGangColumns$Arm;") ∈ lw_all := lw_g (lw_at lw_m11 21 rfl) rfl
theorem q2539 : (Jvm.Cond.fieldLinkNest "GangColumns$ByEnd" (7 : Nat) "GangColumns$Going" "arm" "LGangColumns$Arm;" "GangColumns") ∈ lw_tbl := lw_at lw_m11 22 rfl
theorem q2540 : (Jvm.Cond.fieldLinkNest "GangColumns$WidestGoing" (7 : Nat) "GangColumns$Going" "arm" "LGangColumns$Arm;" "GangColumns") ∈ lw_tbl := lw_at lw_m11 23 rfl
theorem q2541 : (Jvm.Cond.fieldLinkNest "GangColumns$Moves" (75 : Nat) "GangColumns$Going" "arm" "LGangColumns$Arm;" "GangColumns") ∈ lw_tbl := lw_at lw_m11 24 rfl
theorem q2542 : (Jvm.Cond.fieldLinkNest "GangColumns$Cluster" (182 : Nat) "GangColumns$Going" "arm" "LGangColumns$Arm;" "GangColumns") ∈ lw_tbl := lw_at lw_m11 25 rfl
theorem q2543 : (Jvm.Cond.laysFinal "GangColumns$Going" "GangColumns$Going" "job" "LGangColumns$Job;") ∈ lw_all := lw_g (lw_at lw_m11 26 rfl) rfl
theorem q2544 : (Jvm.Cond.soleField "GangColumns$Going" "job") ∈ lw_all := lw_g (lw_at lw_m11 27 rfl) rfl
theorem q2545 : (Jvm.Cond.laysFinal "GangColumns$Going" "GangColumns$Going" "arm" "LGangColumns$Arm;") ∈ lw_all := lw_g (lw_at lw_m11 28 rfl) rfl
theorem q2546 : (Jvm.Cond.soleField "GangColumns$Going" "arm") ∈ lw_all := lw_g (lw_at lw_m11 29 rfl) rfl
theorem q2547 : (Jvm.Cond.superclass "GangColumns$Going" "java/lang/Object") ∈ lw_all := lw_g (lw_at lw_m11 30 rfl) rfl
theorem q2548 : (Jvm.Cond.instantiable "GangColumns$Runs" (3 : Nat)) ∈ lw_all := lw_g (lw_at lw_m11 31 rfl) rfl
theorem q2549 : (Jvm.Cond.methodLink "GangColumns$Cluster" (344 : Nat) ({ cls := "GangColumns$Runs", name := "<init>", desc := "(III)V" } : Jvm.MethodName)) ∈ lw_all := lw_g (lw_at lw_m11 32 rfl) rfl
theorem q2550 : (Jvm.Cond.instanceMethod ({ cls := "GangColumns$Runs", name := "<init>", desc := "(III)V" } : Jvm.MethodName)) ∈ lw_all := lw_g (lw_at lw_m11 33 rfl) rfl
theorem q2551 : (Jvm.Cond.code ({ cls := "GangColumns$Runs", name := "<init>", desc := "(III)V" } : Jvm.MethodName) prog_26_method_1_code (4 : Nat) (Option.none : Option Jvm.ClassFile.FieldType)) ∈ lw_all := lw_g (lw_at lw_m11 34 rfl) rfl
theorem q2552 : (Jvm.Cond.methodLink "GangColumns$Runs" (1 : Nat) ({ cls := "GangColumns$Hold", name := "<init>", desc := "(II)V" } : Jvm.MethodName)) ∈ lw_all := lw_g (lw_at lw_m11 35 rfl) rfl
theorem q2553 : (Jvm.Cond.fieldLink "GangColumns$Runs" (7 : Nat) "GangColumns$Runs" "job" "I") ∈ lw_all := lw_g (lw_at lw_m11 36 rfl) rfl
theorem q2554 : (Jvm.Cond.laysFinal "GangColumns$Runs" "GangColumns$Runs" "job" "I") ∈ lw_all := lw_g (lw_at lw_m11 37 rfl) rfl
theorem q2555 : (Jvm.Cond.soleField "GangColumns$Runs" "job") ∈ lw_all := lw_g (lw_at lw_m11 38 rfl) rfl
theorem q2556 : (Jvm.Cond.laysFinal "GangColumns$Runs" "GangColumns$Hold" "from" "I") ∈ lw_all := lw_g (lw_at lw_m11 39 rfl) rfl
theorem q2557 : (Jvm.Cond.laysFinal "GangColumns$Runs" "GangColumns$Hold" "to" "I") ∈ lw_all := lw_g (lw_at lw_m11 40 rfl) rfl
theorem q2558 : (Jvm.Cond.superclass "GangColumns$Runs" "GangColumns$Hold") ∈ lw_all := lw_g (lw_at lw_m11 41 rfl) rfl
theorem q2559 : (Jvm.Cond.interfaceEntry "GangColumns$Cluster" (393 : Nat)) ∈ lw_tbl := lw_at lw_m11 42 rfl
theorem q2560 : (Jvm.Cond.methodLink "GangColumns$Cluster" (393 : Nat) ({ cls := "GangColumns$Starts", name := "on", desc := "(LGangColumns$Job;)V" } : Jvm.MethodName)) ∈ lw_all := lw_g (lw_at lw_m11 43 rfl) rfl
theorem q2561 : (Jvm.Cond.interfaceMethod "GangColumns$Starts" "GangColumns$Starts" "on" "(LGangColumns$Job;)V") ∈ lw_tbl := lw_at lw_m11 44 rfl
theorem q2562 : (Jvm.Cond.declares ({ cls := "GangColumns$Starts", name := "on", desc := "(LGangColumns$Job;)V" } : Jvm.MethodName)) ∈ lw_tbl := lw_at lw_m11 45 rfl
theorem q2563 : (Jvm.Cond.methodLink "GangColumns$Cluster" (398 : Nat) ({ cls := "java/lang/Math", name := "max", desc := "(II)I" } : Jvm.MethodName)) ∈ lw_all := lw_g (lw_at lw_m11 46 rfl) rfl
theorem q2564 : (Jvm.Cond.methodLink "GangColumns$Cluster" (404 : Nat) ({ cls := "GangColumns$Cluster", name := "isPromised", desc := "(LGangColumns$Job;)Z" } : Jvm.MethodName)) ∈ lw_all := lw_g (lw_at lw_m11 47 rfl) rfl
theorem q2565 : (Jvm.Cond.privateMethod ({ cls := "GangColumns$Cluster", name := "isPromised", desc := "(LGangColumns$Job;)Z" } : Jvm.MethodName)) ∈ lw_tbl := lw_at lw_m11 48 rfl
theorem q2566 : (Jvm.Cond.instanceMethod ({ cls := "GangColumns$Cluster", name := "isPromised", desc := "(LGangColumns$Job;)Z" } : Jvm.MethodName)) ∈ lw_all := lw_g (lw_at lw_m11 49 rfl) rfl
theorem q2567 : (Jvm.Cond.code ({ cls := "GangColumns$Cluster", name := "isPromised", desc := "(LGangColumns$Job;)Z" } : Jvm.MethodName) prog_8_method_23_code (9 : Nat) (Option.some Jvm.ClassFile.FieldType.boolean)) ∈ lw_all := lw_g (lw_at lw_m11 50 rfl) rfl
theorem q2568 : (Jvm.Cond.methodLink "GangColumns$Cluster" (355 : Nat) ({ cls := "GangColumns$Cluster", name := "firstTick", desc := "(LGangColumns$Job;II)I" } : Jvm.MethodName)) ∈ lw_all := lw_g (lw_at lw_m11 51 rfl) rfl
theorem q2569 : (Jvm.Cond.instanceMethod ({ cls := "GangColumns$Cluster", name := "firstTick", desc := "(LGangColumns$Job;II)I" } : Jvm.MethodName)) ∈ lw_all := lw_g (lw_at lw_m11 52 rfl) rfl
theorem q2570 : (Jvm.Cond.selects "GangColumns$Cluster" ({ cls := "GangColumns$Cluster", name := "firstTick", desc := "(LGangColumns$Job;II)I" } : Jvm.MethodName) ({ cls := "GangColumns$Cluster", name := "firstTick", desc := "(LGangColumns$Job;II)I" } : Jvm.MethodName)) ∈ lw_all := lw_g (lw_at lw_m11 53 rfl) rfl
theorem q2571 : (Jvm.Cond.code ({ cls := "GangColumns$Cluster", name := "firstTick", desc := "(LGangColumns$Job;II)I" } : Jvm.MethodName) prog_8_method_20_code (11 : Nat) (Option.some Jvm.ClassFile.FieldType.int)) ∈ lw_all := lw_g (lw_at lw_m11 54 rfl) rfl
theorem q2572 : (Jvm.Cond.static ({ cls := "GangColumns$Cluster", name := "lambda$firstTick$1", desc := "(LGangColumns$Job;LGangColumns$Hold;)Z" } : Jvm.MethodName)) ∈ lw_all := lw_g (lw_at lw_m11 55 rfl) rfl
theorem q2573 : (Jvm.Cond.code ({ cls := "GangColumns$Cluster", name := "lambda$firstTick$1", desc := "(LGangColumns$Job;LGangColumns$Hold;)Z" } : Jvm.MethodName) prog_8_method_45_code (2 : Nat) (Option.some Jvm.ClassFile.FieldType.boolean)) ∈ lw_all := lw_g (lw_at lw_m11 56 rfl) rfl
theorem q2574 : (Jvm.Cond.constant "GangColumns$Cluster" (316 : Nat) (2147483647 : Int32)) ∈ lw_all := lw_g (lw_at lw_m11 57 rfl) rfl
theorem q2575 : (Jvm.Cond.methodLink "GangColumns$Cluster" (317 : Nat) ({ cls := "GangColumns$Column", name := "turnBehind", desc := "(I[LGangColumns$Arm;)I" } : Jvm.MethodName)) ∈ lw_all := lw_g (lw_at lw_m11 58 rfl) rfl
theorem q2576 : (Jvm.Cond.instanceMethod ({ cls := "GangColumns$Column", name := "turnBehind", desc := "(I[LGangColumns$Arm;)I" } : Jvm.MethodName)) ∈ lw_all := lw_g (lw_at lw_m11 59 rfl) rfl
theorem q2577 : (Jvm.Cond.selects "GangColumns$Column" ({ cls := "GangColumns$Column", name := "turnBehind", desc := "(I[LGangColumns$Arm;)I" } : Jvm.MethodName) ({ cls := "GangColumns$Column", name := "turnBehind", desc := "(I[LGangColumns$Arm;)I" } : Jvm.MethodName)) ∈ lw_all := lw_g (lw_at lw_m11 60 rfl) rfl
theorem q2578 : (Jvm.Cond.code ({ cls := "GangColumns$Column", name := "turnBehind", desc := "(I[LGangColumns$Arm;)I" } : Jvm.MethodName) prog_10_method_6_code (11 : Nat) (Option.some Jvm.ClassFile.FieldType.int)) ∈ lw_all := lw_g (lw_at lw_m11 61 rfl) rfl
theorem q2579 : (Jvm.Cond.constant "GangColumns$Column" (63 : Nat) (2147483647 : Int32)) ∈ lw_all := lw_g (lw_at lw_m11 62 rfl) rfl
theorem q2580 : (Jvm.Cond.methodLink "GangColumns$Column" (68 : Nat) ({ cls := "java/lang/Math", name := "min", desc := "(II)I" } : Jvm.MethodName)) ∈ lw_all := lw_g (lw_at lw_m11 63 rfl) rfl
theorem q2581 : (Jvm.Cond.instantiable "GangColumns$Promised" (3 : Nat)) ∈ lw_all := lw_g (lw_at lw_m11 64 rfl) rfl
theorem q2582 : (Jvm.Cond.methodLink "GangColumns$Cluster" (361 : Nat) ({ cls := "GangColumns$Promised", name := "<init>", desc := "(III)V" } : Jvm.MethodName)) ∈ lw_all := lw_g (lw_at lw_m11 65 rfl) rfl
theorem q2583 : (Jvm.Cond.instanceMethod ({ cls := "GangColumns$Promised", name := "<init>", desc := "(III)V" } : Jvm.MethodName)) ∈ lw_all := lw_g (lw_at lw_m11 66 rfl) rfl
theorem q2584 : (Jvm.Cond.code ({ cls := "GangColumns$Promised", name := "<init>", desc := "(III)V" } : Jvm.MethodName) prog_23_method_1_code (4 : Nat) (Option.none : Option Jvm.ClassFile.FieldType)) ∈ lw_all := lw_g (lw_at lw_m11 67 rfl) rfl
theorem q2585 : (Jvm.Cond.methodLink "GangColumns$Promised" (1 : Nat) ({ cls := "GangColumns$Hold", name := "<init>", desc := "(II)V" } : Jvm.MethodName)) ∈ lw_all := lw_g (lw_at lw_m11 68 rfl) rfl
theorem q2586 : (Jvm.Cond.fieldLink "GangColumns$Promised" (7 : Nat) "GangColumns$Promised" "job" "I") ∈ lw_all := lw_g (lw_at lw_m11 69 rfl) rfl
theorem q2587 : (Jvm.Cond.laysFinal "GangColumns$Promised" "GangColumns$Promised" "job" "I") ∈ lw_all := lw_g (lw_at lw_m11 70 rfl) rfl
theorem q2588 : (Jvm.Cond.soleField "GangColumns$Promised" "job") ∈ lw_all := lw_g (lw_at lw_m11 71 rfl) rfl
theorem q2589 : (Jvm.Cond.laysFinal "GangColumns$Promised" "GangColumns$Hold" "from" "I") ∈ lw_all := lw_g (lw_at lw_m11 72 rfl) rfl
theorem q2590 : (Jvm.Cond.laysFinal "GangColumns$Promised" "GangColumns$Hold" "to" "I") ∈ lw_all := lw_g (lw_at lw_m11 73 rfl) rfl
theorem q2591 : (Jvm.Cond.superclass "GangColumns$Promised" "GangColumns$Hold") ∈ lw_all := lw_g (lw_at lw_m11 74 rfl) rfl
theorem q2592 : (Jvm.Cond.methodLink "GangColumns$Cluster" (362 : Nat) ({ cls := "GangColumns$Promises", name := "put", desc := "(II)V" } : Jvm.MethodName)) ∈ lw_all := lw_g (lw_at lw_m11 75 rfl) rfl
theorem q2593 : (Jvm.Cond.instanceMethod ({ cls := "GangColumns$Promises", name := "put", desc := "(II)V" } : Jvm.MethodName)) ∈ lw_all := lw_g (lw_at lw_m11 76 rfl) rfl
theorem q2594 : (Jvm.Cond.selects "GangColumns$Promises" ({ cls := "GangColumns$Promises", name := "put", desc := "(II)V" } : Jvm.MethodName) ({ cls := "GangColumns$Promises", name := "put", desc := "(II)V" } : Jvm.MethodName)) ∈ lw_all := lw_g (lw_at lw_m11 77 rfl) rfl
theorem q2595 : (Jvm.Cond.code ({ cls := "GangColumns$Promises", name := "put", desc := "(II)V" } : Jvm.MethodName) prog_24_method_3_code (3 : Nat) (Option.none : Option Jvm.ClassFile.FieldType)) ∈ lw_all := lw_g (lw_at lw_m11 78 rfl) rfl
theorem q2596 : (Jvm.Cond.methodLink "GangColumns$Cluster" (365 : Nat) ({ cls := "GangColumns$Promises", name := "of", desc := "(I)I" } : Jvm.MethodName)) ∈ lw_all := lw_g (lw_at lw_m11 79 rfl) rfl
theorem q2597 : (Jvm.Cond.methodLink "GangColumns$Cluster" (418 : Nat) ({ cls := "GangColumns$Cluster", name := "uses", desc := "()V" } : Jvm.MethodName)) ∈ lw_all := lw_g (lw_at lw_m11 80 rfl) rfl
theorem q2598 : (Jvm.Cond.privateMethod ({ cls := "GangColumns$Cluster", name := "uses", desc := "()V" } : Jvm.MethodName)) ∈ lw_tbl := lw_at lw_m11 81 rfl
theorem q2599 : (Jvm.Cond.instanceMethod ({ cls := "GangColumns$Cluster", name := "uses", desc := "()V" } : Jvm.MethodName)) ∈ lw_all := lw_g (lw_at lw_m11 82 rfl) rfl
theorem q2600 : (Jvm.Cond.code ({ cls := "GangColumns$Cluster", name := "uses", desc := "()V" } : Jvm.MethodName) prog_8_method_28_code (4 : Nat) (Option.none : Option Jvm.ClassFile.FieldType)) ∈ lw_all := lw_g (lw_at lw_m11 83 rfl) rfl
theorem q2601 : (Jvm.Cond.methodLink "GangColumns$Cluster" (411 : Nat) ({ cls := "GangColumns$Cluster", name := "charts", desc := "()V" } : Jvm.MethodName)) ∈ lw_all := lw_g (lw_at lw_m11 84 rfl) rfl
theorem q2602 : (Jvm.Cond.privateMethod ({ cls := "GangColumns$Cluster", name := "charts", desc := "()V" } : Jvm.MethodName)) ∈ lw_tbl := lw_at lw_m11 85 rfl
theorem q2603 : (Jvm.Cond.instanceMethod ({ cls := "GangColumns$Cluster", name := "charts", desc := "()V" } : Jvm.MethodName)) ∈ lw_all := lw_g (lw_at lw_m11 86 rfl) rfl
theorem q2604 : (Jvm.Cond.code ({ cls := "GangColumns$Cluster", name := "charts", desc := "()V" } : Jvm.MethodName) prog_8_method_29_code (6 : Nat) (Option.none : Option Jvm.ClassFile.FieldType)) ∈ lw_all := lw_g (lw_at lw_m11 87 rfl) rfl
theorem q2605 : (Jvm.Cond.methodLink "GangColumns$Cluster" (421 : Nat) ({ cls := "java/util/PriorityQueue", name := "isEmpty", desc := "()Z" } : Jvm.MethodName)) ∈ lw_all := lw_g (lw_at lw_m11 88 rfl) rfl
theorem q2606 : (Jvm.Cond.sameMethod "java/util/PriorityQueue" "java/util/AbstractCollection" "isEmpty" "()Z") ∈ lw_all := lw_g (lw_at lw_m11 89 rfl) rfl
theorem q2607 : (Jvm.Cond.declares ({ cls := "java/util/AbstractCollection", name := "isEmpty", desc := "()Z" } : Jvm.MethodName)) ∈ lw_tbl := lw_at lw_m11 90 rfl
theorem q2608 : (Jvm.Cond.selects "java/util/PriorityQueue" ({ cls := "java/util/PriorityQueue", name := "isEmpty", desc := "()Z" } : Jvm.MethodName) ({ cls := "java/util/AbstractCollection", name := "isEmpty", desc := "()Z" } : Jvm.MethodName)) ∈ lw_all := lw_g (lw_at lw_m11 91 rfl) rfl
theorem q2609 : (Jvm.Cond.instanceMethod ({ cls := "java/util/AbstractCollection", name := "isEmpty", desc := "()Z" } : Jvm.MethodName)) ∈ lw_all := lw_g (lw_at lw_m11 92 rfl) rfl
theorem q2610 : (Jvm.Cond.code ({ cls := "java/util/AbstractCollection", name := "isEmpty", desc := "()Z" } : Jvm.MethodName) prog_55_method_4_code (1 : Nat) (Option.some Jvm.ClassFile.FieldType.boolean)) ∈ lw_all := lw_g (lw_at lw_m11 93 rfl) rfl
theorem q2611 : (Jvm.Cond.methodLink "java/util/AbstractCollection" (7 : Nat) ({ cls := "java/util/AbstractCollection", name := "size", desc := "()I" } : Jvm.MethodName)) ∈ lw_all := lw_g (lw_at lw_m11 94 rfl) rfl
theorem q2612 : (Jvm.Cond.declares ({ cls := "java/util/AbstractCollection", name := "size", desc := "()I" } : Jvm.MethodName)) ∈ lw_tbl := lw_at lw_m11 95 rfl
theorem q2613 : (Jvm.Cond.sameMethod "java/util/AbstractCollection" "java/util/AbstractCollection" "size" "()I") ∈ lw_all := lw_g (lw_at lw_m11 96 rfl) rfl
theorem q2614 : (Jvm.Cond.selects "java/util/ArrayList" ({ cls := "java/util/AbstractCollection", name := "size", desc := "()I" } : Jvm.MethodName) ({ cls := "java/util/ArrayList", name := "size", desc := "()I" } : Jvm.MethodName)) ∈ lw_all := lw_g (lw_at lw_m11 97 rfl) rfl
theorem q2615 : (Jvm.Cond.selects "java/util/PriorityQueue" ({ cls := "java/util/AbstractCollection", name := "size", desc := "()I" } : Jvm.MethodName) ({ cls := "java/util/PriorityQueue", name := "size", desc := "()I" } : Jvm.MethodName)) ∈ lw_all := lw_g (lw_at lw_m11 98 rfl) rfl
theorem q2616 : (Jvm.Cond.instanceMethod ({ cls := "java/util/PriorityQueue", name := "size", desc := "()I" } : Jvm.MethodName)) ∈ lw_all := lw_g (lw_at lw_m11 99 rfl) rfl
theorem q2617 : (Jvm.Cond.code ({ cls := "java/util/PriorityQueue", name := "size", desc := "()I" } : Jvm.MethodName) prog_73_method_23_code (1 : Nat) (Option.some Jvm.ClassFile.FieldType.int)) ∈ lw_all := lw_g (lw_at lw_m11 100 rfl) rfl
theorem q2618 : (Jvm.Cond.selects "java/util/TreeMap$EntrySet" ({ cls := "java/util/AbstractCollection", name := "size", desc := "()I" } : Jvm.MethodName) ({ cls := "java/util/TreeMap$EntrySet", name := "size", desc := "()I" } : Jvm.MethodName)) ∈ lw_all := lw_g (lw_at lw_m11 101 rfl) rfl
theorem q2619 : (Jvm.Cond.instanceMethod ({ cls := "java/util/TreeMap$EntrySet", name := "size", desc := "()I" } : Jvm.MethodName)) ∈ lw_all := lw_g (lw_at lw_m11 102 rfl) rfl
theorem q2620 : (Jvm.Cond.code ({ cls := "java/util/TreeMap$EntrySet", name := "size", desc := "()I" } : Jvm.MethodName) prog_86_method_5_code (1 : Nat) (Option.some Jvm.ClassFile.FieldType.int)) ∈ lw_all := lw_g (lw_at lw_m11 103 rfl) rfl
theorem q2621 : (Jvm.Cond.methodLink "java/util/TreeMap$EntrySet" (48 : Nat) ({ cls := "java/util/TreeMap", name := "size", desc := "()I" } : Jvm.MethodName)) ∈ lw_all := lw_g (lw_at lw_m11 104 rfl) rfl
theorem q2622 : (Jvm.Cond.selects "java/util/TreeMap$KeySet" ({ cls := "java/util/AbstractCollection", name := "size", desc := "()I" } : Jvm.MethodName) ({ cls := "java/util/TreeMap$KeySet", name := "size", desc := "()I" } : Jvm.MethodName)) ∈ lw_all := lw_g (lw_at lw_m11 105 rfl) rfl
theorem q2623 : (Jvm.Cond.instanceMethod ({ cls := "java/util/TreeMap$KeySet", name := "size", desc := "()I" } : Jvm.MethodName)) ∈ lw_all := lw_g (lw_at lw_m11 106 rfl) rfl
theorem q2624 : (Jvm.Cond.code ({ cls := "java/util/TreeMap$KeySet", name := "size", desc := "()I" } : Jvm.MethodName) prog_88_method_4_code (1 : Nat) (Option.some Jvm.ClassFile.FieldType.int)) ∈ lw_all := lw_g (lw_at lw_m11 107 rfl) rfl
theorem q2625 : (Jvm.Cond.interfaceEntry "java/util/TreeMap$KeySet" (26 : Nat)) ∈ lw_tbl := lw_at lw_m11 108 rfl
theorem q2626 : (Jvm.Cond.selects "java/util/TreeMap$Values" ({ cls := "java/util/AbstractCollection", name := "size", desc := "()I" } : Jvm.MethodName) ({ cls := "java/util/TreeMap$Values", name := "size", desc := "()I" } : Jvm.MethodName)) ∈ lw_all := lw_g (lw_at lw_m11 109 rfl) rfl
theorem q2627 : (Jvm.Cond.instanceMethod ({ cls := "java/util/TreeMap$Values", name := "size", desc := "()I" } : Jvm.MethodName)) ∈ lw_all := lw_g (lw_at lw_m11 110 rfl) rfl
theorem q2628 : (Jvm.Cond.code ({ cls := "java/util/TreeMap$Values", name := "size", desc := "()I" } : Jvm.MethodName) prog_92_method_3_code (1 : Nat) (Option.some Jvm.ClassFile.FieldType.int)) ∈ lw_all := lw_g (lw_at lw_m11 111 rfl) rfl
theorem q2629 : (Jvm.Cond.methodLink "java/util/TreeMap$Values" (24 : Nat) ({ cls := "java/util/TreeMap", name := "size", desc := "()I" } : Jvm.MethodName)) ∈ lw_all := lw_g (lw_at lw_m11 112 rfl) rfl
theorem q2630 : (Jvm.Cond.selects "java/util/TreeSet" ({ cls := "java/util/AbstractCollection", name := "size", desc := "()I" } : Jvm.MethodName) ({ cls := "java/util/TreeSet", name := "size", desc := "()I" } : Jvm.MethodName)) ∈ lw_all := lw_g (lw_at lw_m11 113 rfl) rfl
theorem q2631 : (Jvm.Cond.methodLink "GangColumns$Cluster" (424 : Nat) ({ cls := "java/util/PriorityQueue", name := "peek", desc := "()Ljava/lang/Object;" } : Jvm.MethodName)) ∈ lw_all := lw_g (lw_at lw_m11 114 rfl) rfl
theorem q2632 : (Jvm.Cond.instanceMethod ({ cls := "java/util/PriorityQueue", name := "peek", desc := "()Ljava/lang/Object;" } : Jvm.MethodName)) ∈ lw_all := lw_g (lw_at lw_m11 115 rfl) rfl
theorem q2633 : (Jvm.Cond.selects "java/util/PriorityQueue" ({ cls := "java/util/PriorityQueue", name := "peek", desc := "()Ljava/lang/Object;" } : Jvm.MethodName) ({ cls := "java/util/PriorityQueue", name := "peek", desc := "()Ljava/lang/Object;" } : Jvm.MethodName)) ∈ lw_all := lw_g (lw_at lw_m11 116 rfl) rfl
theorem q2634 : (Jvm.Cond.code ({ cls := "java/util/PriorityQueue", name := "peek", desc := "()Ljava/lang/Object;" } : Jvm.MethodName) prog_73_method_15_code (1 : Nat) (Option.some (Jvm.ClassFile.FieldType.object "java/lang/Object"))) ∈ lw_all := lw_g (lw_at lw_m11 117 rfl) rfl
theorem q2635 : (Jvm.Cond.methodLink "GangColumns$Cluster" (427 : Nat) ({ cls := "java/util/PriorityQueue", name := "poll", desc := "()Ljava/lang/Object;" } : Jvm.MethodName)) ∈ lw_all := lw_g (lw_at lw_m11 118 rfl) rfl
theorem q2636 : (Jvm.Cond.instanceMethod ({ cls := "java/util/PriorityQueue", name := "poll", desc := "()Ljava/lang/Object;" } : Jvm.MethodName)) ∈ lw_all := lw_g (lw_at lw_m11 119 rfl) rfl
theorem q2637 : (Jvm.Cond.selects "java/util/PriorityQueue" ({ cls := "java/util/PriorityQueue", name := "poll", desc := "()Ljava/lang/Object;" } : Jvm.MethodName) ({ cls := "java/util/PriorityQueue", name := "poll", desc := "()Ljava/lang/Object;" } : Jvm.MethodName)) ∈ lw_all := lw_g (lw_at lw_m11 120 rfl) rfl
theorem q2638 : (Jvm.Cond.code ({ cls := "java/util/PriorityQueue", name := "poll", desc := "()Ljava/lang/Object;" } : Jvm.MethodName) prog_73_method_25_code (6 : Nat) (Option.some (Jvm.ClassFile.FieldType.object "java/lang/Object"))) ∈ lw_all := lw_g (lw_at lw_m11 121 rfl) rfl
theorem q2639 : (Jvm.Cond.methodLink "java/util/PriorityQueue" (125 : Nat) ({ cls := "java/util/PriorityQueue", name := "siftDownComparable", desc := "(ILjava/lang/Object;[Ljava/lang/Object;I)V" } : Jvm.MethodName)) ∈ lw_all := lw_g (lw_at lw_m11 122 rfl) rfl
theorem q2640 : (Jvm.Cond.static ({ cls := "java/util/PriorityQueue", name := "siftDownComparable", desc := "(ILjava/lang/Object;[Ljava/lang/Object;I)V" } : Jvm.MethodName)) ∈ lw_all := lw_g (lw_at lw_m11 123 rfl) rfl
theorem q2641 : (Jvm.Cond.code ({ cls := "java/util/PriorityQueue", name := "siftDownComparable", desc := "(ILjava/lang/Object;[Ljava/lang/Object;I)V" } : Jvm.MethodName) prog_73_method_31_code (9 : Nat) (Option.none : Option Jvm.ClassFile.FieldType)) ∈ lw_all := lw_g (lw_at lw_m11 124 rfl) rfl
theorem q2642 : (Jvm.Cond.methodLink "java/util/PriorityQueue" (129 : Nat) ({ cls := "java/util/PriorityQueue", name := "siftDownUsingComparator", desc := "(ILjava/lang/Object;[Ljava/lang/Object;ILjava/util/Comparator;)V" } : Jvm.MethodName)) ∈ lw_all := lw_g (lw_at lw_m11 125 rfl) rfl
theorem q2643 : (Jvm.Cond.static ({ cls := "java/util/PriorityQueue", name := "siftDownUsingComparator", desc := "(ILjava/lang/Object;[Ljava/lang/Object;ILjava/util/Comparator;)V" } : Jvm.MethodName)) ∈ lw_all := lw_g (lw_at lw_m11 126 rfl) rfl
theorem q2644 : (Jvm.Cond.code ({ cls := "java/util/PriorityQueue", name := "siftDownUsingComparator", desc := "(ILjava/lang/Object;[Ljava/lang/Object;ILjava/util/Comparator;)V" } : Jvm.MethodName) prog_73_method_32_code (9 : Nat) (Option.none : Option Jvm.ClassFile.FieldType)) ∈ lw_all := lw_g (lw_at lw_m11 127 rfl) rfl
theorem q2645 : (Jvm.Cond.methodLink "GangColumns$Cluster" (432 : Nat) ({ cls := "GangColumns$Cluster", name := "isOver", desc := "(LGangColumns$Job;)Z" } : Jvm.MethodName)) ∈ lw_all := lw_g (lw_at lw_m11 128 rfl) rfl
theorem q2646 : (Jvm.Cond.privateMethod ({ cls := "GangColumns$Cluster", name := "isOver", desc := "(LGangColumns$Job;)Z" } : Jvm.MethodName)) ∈ lw_tbl := lw_at lw_m11 129 rfl
theorem q2647 : (Jvm.Cond.instanceMethod ({ cls := "GangColumns$Cluster", name := "isOver", desc := "(LGangColumns$Job;)Z" } : Jvm.MethodName)) ∈ lw_all := lw_g (lw_at lw_m11 130 rfl) rfl
theorem q2648 : (Jvm.Cond.code ({ cls := "GangColumns$Cluster", name := "isOver", desc := "(LGangColumns$Job;)Z" } : Jvm.MethodName) prog_8_method_25_code (6 : Nat) (Option.some Jvm.ClassFile.FieldType.boolean)) ∈ lw_all := lw_g (lw_at lw_m11 131 rfl) rfl
theorem q2649 : (Jvm.Cond.methodLink "GangColumns$Cluster" (435 : Nat) ({ cls := "GangColumns$Cluster", name := "ends", desc := "(LGangColumns$Job;)V" } : Jvm.MethodName)) ∈ lw_all := lw_g (lw_at lw_m11 132 rfl) rfl
theorem q2650 : (Jvm.Cond.privateMethod ({ cls := "GangColumns$Cluster", name := "ends", desc := "(LGangColumns$Job;)V" } : Jvm.MethodName)) ∈ lw_tbl := lw_at lw_m11 133 rfl
theorem q2651 : (Jvm.Cond.instanceMethod ({ cls := "GangColumns$Cluster", name := "ends", desc := "(LGangColumns$Job;)V" } : Jvm.MethodName)) ∈ lw_all := lw_g (lw_at lw_m11 134 rfl) rfl
theorem q2652 : (Jvm.Cond.code ({ cls := "GangColumns$Cluster", name := "ends", desc := "(LGangColumns$Job;)V" } : Jvm.MethodName) prog_8_method_27_code (7 : Nat) (Option.none : Option Jvm.ClassFile.FieldType)) ∈ lw_all := lw_g (lw_at lw_m11 135 rfl) rfl
theorem q2653 : (Jvm.Cond.methodLink "GangColumns$Cluster" (438 : Nat) ({ cls := "GangColumns$Cluster", name := "endsSpans", desc := "()V" } : Jvm.MethodName)) ∈ lw_all := lw_g (lw_at lw_m11 136 rfl) rfl
theorem q2654 : (Jvm.Cond.privateMethod ({ cls := "GangColumns$Cluster", name := "endsSpans", desc := "()V" } : Jvm.MethodName)) ∈ lw_tbl := lw_at lw_m11 137 rfl
theorem q2655 : (Jvm.Cond.instanceMethod ({ cls := "GangColumns$Cluster", name := "endsSpans", desc := "()V" } : Jvm.MethodName)) ∈ lw_all := lw_g (lw_at lw_m11 138 rfl) rfl
theorem q2656 : (Jvm.Cond.code ({ cls := "GangColumns$Cluster", name := "endsSpans", desc := "()V" } : Jvm.MethodName) prog_8_method_31_code (4 : Nat) (Option.none : Option Jvm.ClassFile.FieldType)) ∈ lw_all := lw_g (lw_at lw_m11 139 rfl) rfl
theorem q2657 : (Jvm.Cond.methodLink "GangColumns$Cluster" (441 : Nat) ({ cls := "java/util/TreeMap", name := "isEmpty", desc := "()Z" } : Jvm.MethodName)) ∈ lw_all := lw_g (lw_at lw_m11 140 rfl) rfl
theorem q2658 : (Jvm.Cond.sameMethod "java/util/TreeMap" "java/util/AbstractMap" "isEmpty" "()Z") ∈ lw_all := lw_g (lw_at lw_m11 141 rfl) rfl
theorem q2659 : (Jvm.Cond.declares ({ cls := "java/util/AbstractMap", name := "isEmpty", desc := "()Z" } : Jvm.MethodName)) ∈ lw_tbl := lw_at lw_m11 142 rfl
theorem q2660 : (Jvm.Cond.selects "java/util/TreeMap" ({ cls := "java/util/TreeMap", name := "isEmpty", desc := "()Z" } : Jvm.MethodName) ({ cls := "java/util/AbstractMap", name := "isEmpty", desc := "()Z" } : Jvm.MethodName)) ∈ lw_all := lw_g (lw_at lw_m11 143 rfl) rfl
theorem q2661 : (Jvm.Cond.instanceMethod ({ cls := "java/util/AbstractMap", name := "isEmpty", desc := "()Z" } : Jvm.MethodName)) ∈ lw_all := lw_g (lw_at lw_m11 144 rfl) rfl
theorem q2662 : (Jvm.Cond.code ({ cls := "java/util/AbstractMap", name := "isEmpty", desc := "()Z" } : Jvm.MethodName) prog_57_method_3_code (1 : Nat) (Option.some Jvm.ClassFile.FieldType.boolean)) ∈ lw_all := lw_g (lw_at lw_m11 145 rfl) rfl
theorem q2663 : (Jvm.Cond.methodLink "java/util/AbstractMap" (19 : Nat) ({ cls := "java/util/AbstractMap", name := "size", desc := "()I" } : Jvm.MethodName)) ∈ lw_all := lw_g (lw_at lw_m11 146 rfl) rfl
theorem q2664 : (Jvm.Cond.instanceMethod ({ cls := "java/util/AbstractMap", name := "size", desc := "()I" } : Jvm.MethodName)) ∈ lw_all := lw_g (lw_at lw_m11 147 rfl) rfl
theorem q2665 : (Jvm.Cond.sameMethod "java/util/AbstractMap" "java/util/AbstractMap" "size" "()I") ∈ lw_all := lw_g (lw_at lw_m11 148 rfl) rfl
theorem q2666 : (Jvm.Cond.selects "java/util/TreeMap" ({ cls := "java/util/AbstractMap", name := "size", desc := "()I" } : Jvm.MethodName) ({ cls := "java/util/TreeMap", name := "size", desc := "()I" } : Jvm.MethodName)) ∈ lw_all := lw_g (lw_at lw_m11 149 rfl) rfl
theorem q2667 : (Jvm.Cond.declares ({ cls := "java/util/AbstractMap", name := "size", desc := "()I" } : Jvm.MethodName)) ∈ lw_tbl := lw_at lw_m11 150 rfl
theorem q2668 : (Jvm.Cond.methodLink "GangColumns$Cluster" (445 : Nat) ({ cls := "GangColumns$Cluster", name := "letsSpan", desc := "(LGangColumns$Span;)V" } : Jvm.MethodName)) ∈ lw_all := lw_g (lw_at lw_m11 151 rfl) rfl
theorem q2669 : (Jvm.Cond.methodLink "GangColumns$Cluster" (449 : Nat) ({ cls := "java/util/TreeMap", name := "size", desc := "()I" } : Jvm.MethodName)) ∈ lw_all := lw_g (lw_at lw_m11 152 rfl) rfl
theorem q2670 : (Jvm.Cond.methodLink "GangColumns$Cluster" (450 : Nat) ({ cls := "java/util/TreeMap", name := "clear", desc := "()V" } : Jvm.MethodName)) ∈ lw_all := lw_g (lw_at lw_m11 153 rfl) rfl
theorem q2671 : (Jvm.Cond.instanceMethod ({ cls := "java/util/TreeMap", name := "clear", desc := "()V" } : Jvm.MethodName)) ∈ lw_all := lw_g (lw_at lw_m11 154 rfl) rfl
theorem q2672 : (Jvm.Cond.selects "java/util/TreeMap" ({ cls := "java/util/TreeMap", name := "clear", desc := "()V" } : Jvm.MethodName) ({ cls := "java/util/TreeMap", name := "clear", desc := "()V" } : Jvm.MethodName)) ∈ lw_all := lw_g (lw_at lw_m11 155 rfl) rfl
theorem q2673 : (Jvm.Cond.code ({ cls := "java/util/TreeMap", name := "clear", desc := "()V" } : Jvm.MethodName) prog_83_method_35_code (1 : Nat) (Option.none : Option Jvm.ClassFile.FieldType)) ∈ lw_all := lw_g (lw_at lw_m11 156 rfl) rfl
theorem q2674 : (Jvm.Cond.methodLink "GangColumns$Cluster" (451 : Nat) ({ cls := "java/util/TreeMap", name := "putAll", desc := "(Ljava/util/Map;)V" } : Jvm.MethodName)) ∈ lw_all := lw_g (lw_at lw_m11 157 rfl) rfl
theorem q2675 : (Jvm.Cond.instanceMethod ({ cls := "java/util/TreeMap", name := "putAll", desc := "(Ljava/util/Map;)V" } : Jvm.MethodName)) ∈ lw_all := lw_g (lw_at lw_m11 158 rfl) rfl
theorem q2676 : (Jvm.Cond.selects "java/util/TreeMap" ({ cls := "java/util/TreeMap", name := "putAll", desc := "(Ljava/util/Map;)V" } : Jvm.MethodName) ({ cls := "java/util/TreeMap", name := "putAll", desc := "(Ljava/util/Map;)V" } : Jvm.MethodName)) ∈ lw_all := lw_g (lw_at lw_m11 159 rfl) rfl
theorem q2677 : (Jvm.Cond.codeWith ({ cls := "java/util/TreeMap", name := "putAll", desc := "(Ljava/util/Map;)V" } : Jvm.MethodName) prog_83_method_14_code (4 : Nat) (Option.none : Option Jvm.ClassFile.FieldType) [((54 : Nat), (72 : Nat), (75 : Nat), (46 : Nat)), ((54 : Nat), (72 : Nat), (75 : Nat), (48 : Nat))]) ∈ lw_all := lw_g (lw_at lw_m11 160 rfl) rfl
theorem q2678 : (Jvm.Cond.interfaceEntry "java/util/TreeMap" (82 : Nat)) ∈ lw_tbl := lw_at lw_m11 161 rfl
theorem q2679 : (Jvm.Cond.methodLink "java/util/TreeMap" (82 : Nat) ({ cls := "java/util/Map", name := "size", desc := "()I" } : Jvm.MethodName)) ∈ lw_all := lw_g (lw_at lw_m11 162 rfl) rfl
theorem q2680 : (Jvm.Cond.interfaceMethod "java/util/Map" "java/util/Map" "size" "()I") ∈ lw_tbl := lw_at lw_m11 163 rfl
theorem q2681 : (Jvm.Cond.castable "java/util/TreeMap" "java/util/Map") ∈ lw_tbl := lw_at lw_m11 164 rfl
theorem q2682 : (Jvm.Cond.classLink "java/util/TreeMap" (25 : Nat) "java/util/SortedMap") ∈ lw_all := lw_g (lw_at lw_m11 165 rfl) rfl
theorem q2683 : (Jvm.Cond.interfaceEntry "java/util/TreeMap" (24 : Nat)) ∈ lw_tbl := lw_at lw_m11 166 rfl
theorem q2684 : (Jvm.Cond.methodLink "java/util/TreeMap" (24 : Nat) ({ cls := "java/util/SortedMap", name := "comparator", desc := "()Ljava/util/Comparator;" } : Jvm.MethodName)) ∈ lw_all := lw_g (lw_at lw_m11 167 rfl) rfl
theorem q2685 : (Jvm.Cond.interfaceMethod "java/util/SortedMap" "java/util/SortedMap" "comparator" "()Ljava/util/Comparator;") ∈ lw_tbl := lw_at lw_m11 168 rfl
theorem q2686 : (Jvm.Cond.declares ({ cls := "java/util/SortedMap", name := "comparator", desc := "()Ljava/util/Comparator;" } : Jvm.MethodName)) ∈ lw_tbl := lw_at lw_m11 169 rfl
theorem q2687 : (Jvm.Cond.castable "java/util/TreeMap" "java/util/SortedMap") ∈ lw_tbl := lw_at lw_m11 170 rfl
theorem q2688 : (Jvm.Cond.selects "java/util/TreeMap" ({ cls := "java/util/SortedMap", name := "comparator", desc := "()Ljava/util/Comparator;" } : Jvm.MethodName) ({ cls := "java/util/TreeMap", name := "comparator", desc := "()Ljava/util/Comparator;" } : Jvm.MethodName)) ∈ lw_all := lw_g (lw_at lw_m11 171 rfl) rfl
theorem q2689 : (Jvm.Cond.unhidden "java/util/TreeMap" "comparator" "()Ljava/util/Comparator;") ∈ lw_tbl := lw_at lw_m11 172 rfl
theorem q2690 : (Jvm.Cond.instanceMethod ({ cls := "java/util/TreeMap", name := "comparator", desc := "()Ljava/util/Comparator;" } : Jvm.MethodName)) ∈ lw_all := lw_g (lw_at lw_m11 173 rfl) rfl
theorem q2691 : (Jvm.Cond.publicMethod ({ cls := "java/util/TreeMap", name := "comparator", desc := "()Ljava/util/Comparator;" } : Jvm.MethodName)) ∈ lw_tbl := lw_at lw_m11 174 rfl
theorem q2692 : (Jvm.Cond.code ({ cls := "java/util/TreeMap", name := "comparator", desc := "()Ljava/util/Comparator;" } : Jvm.MethodName) prog_83_method_9_code (1 : Nat) (Option.some (Jvm.ClassFile.FieldType.object "java/util/Comparator"))) ∈ lw_all := lw_g (lw_at lw_m11 175 rfl) rfl
theorem q2693 : (Jvm.Cond.methodLink "java/util/TreeMap" (85 : Nat) ({ cls := "java/util/Objects", name := "equals", desc := "(Ljava/lang/Object;Ljava/lang/Object;)Z" } : Jvm.MethodName)) ∈ lw_all := lw_g (lw_at lw_m11 176 rfl) rfl
theorem q2694 : (Jvm.Cond.static ({ cls := "java/util/Objects", name := "equals", desc := "(Ljava/lang/Object;Ljava/lang/Object;)Z" } : Jvm.MethodName)) ∈ lw_all := lw_g (lw_at lw_m11 177 rfl) rfl
theorem q2695 : (Jvm.Cond.code ({ cls := "java/util/Objects", name := "equals", desc := "(Ljava/lang/Object;Ljava/lang/Object;)Z" } : Jvm.MethodName) prog_72_method_2_code (2 : Nat) (Option.some Jvm.ClassFile.FieldType.boolean)) ∈ lw_all := lw_g (lw_at lw_m11 178 rfl) rfl
theorem q2696 : (Jvm.Cond.declares ({ cls := "java/lang/Object", name := "equals", desc := "(Ljava/lang/Object;)Z" } : Jvm.MethodName)) ∈ lw_tbl := lw_at lw_m11 179 rfl
theorem q2697 : (Jvm.Cond.methodLink "java/util/Objects" (14 : Nat) ({ cls := "java/lang/Object", name := "equals", desc := "(Ljava/lang/Object;)Z" } : Jvm.MethodName)) ∈ lw_all := lw_g (lw_at lw_m11 180 rfl) rfl
theorem q2698 : (Jvm.Cond.instanceMethod ({ cls := "java/lang/Object", name := "equals", desc := "(Ljava/lang/Object;)Z" } : Jvm.MethodName)) ∈ lw_all := lw_g (lw_at lw_m11 181 rfl) rfl
theorem q2699 : (Jvm.Cond.sameMethod "java/lang/Object" "java/lang/Object" "equals" "(Ljava/lang/Object;)Z") ∈ lw_all := lw_g (lw_at lw_m11 182 rfl) rfl
theorem q2700 : (Jvm.Cond.selects "GangColumns" ({ cls := "java/lang/Object", name := "equals", desc := "(Ljava/lang/Object;)Z" } : Jvm.MethodName) ({ cls := "java/lang/Object", name := "equals", desc := "(Ljava/lang/Object;)Z" } : Jvm.MethodName)) ∈ lw_all := lw_g (lw_at lw_m11 183 rfl) rfl
theorem q2701 : (Jvm.Cond.selects "GangColumns$1" ({ cls := "java/lang/Object", name := "equals", desc := "(Ljava/lang/Object;)Z" } : Jvm.MethodName) ({ cls := "java/lang/Object", name := "equals", desc := "(Ljava/lang/Object;)Z" } : Jvm.MethodName)) ∈ lw_all := lw_g (lw_at lw_m11 184 rfl) rfl
theorem q2702 : (Jvm.Cond.selects "GangColumns$1Holds" ({ cls := "java/lang/Object", name := "equals", desc := "(Ljava/lang/Object;)Z" } : Jvm.MethodName) ({ cls := "java/lang/Object", name := "equals", desc := "(Ljava/lang/Object;)Z" } : Jvm.MethodName)) ∈ lw_all := lw_g (lw_at lw_m11 185 rfl) rfl
theorem q2703 : (Jvm.Cond.selects "GangColumns$Arm" ({ cls := "java/lang/Object", name := "equals", desc := "(Ljava/lang/Object;)Z" } : Jvm.MethodName) ({ cls := "java/lang/Object", name := "equals", desc := "(Ljava/lang/Object;)Z" } : Jvm.MethodName)) ∈ lw_all := lw_g (lw_at lw_m11 186 rfl) rfl
theorem q2704 : (Jvm.Cond.selects "GangColumns$ArmsReader" ({ cls := "java/lang/Object", name := "equals", desc := "(Ljava/lang/Object;)Z" } : Jvm.MethodName) ({ cls := "java/lang/Object", name := "equals", desc := "(Ljava/lang/Object;)Z" } : Jvm.MethodName)) ∈ lw_all := lw_g (lw_at lw_m11 187 rfl) rfl
theorem q2705 : (Jvm.Cond.selects "GangColumns$ByEnd" ({ cls := "java/lang/Object", name := "equals", desc := "(Ljava/lang/Object;)Z" } : Jvm.MethodName) ({ cls := "java/lang/Object", name := "equals", desc := "(Ljava/lang/Object;)Z" } : Jvm.MethodName)) ∈ lw_all := lw_g (lw_at lw_m11 188 rfl) rfl
theorem q2706 : (Jvm.Cond.selects "GangColumns$ByWidth" ({ cls := "java/lang/Object", name := "equals", desc := "(Ljava/lang/Object;)Z" } : Jvm.MethodName) ({ cls := "java/lang/Object", name := "equals", desc := "(Ljava/lang/Object;)Z" } : Jvm.MethodName)) ∈ lw_all := lw_g (lw_at lw_m11 189 rfl) rfl
theorem q2707 : (Jvm.Cond.selects "GangColumns$Cluster" ({ cls := "java/lang/Object", name := "equals", desc := "(Ljava/lang/Object;)Z" } : Jvm.MethodName) ({ cls := "java/lang/Object", name := "equals", desc := "(Ljava/lang/Object;)Z" } : Jvm.MethodName)) ∈ lw_all := lw_g (lw_at lw_m11 190 rfl) rfl
theorem q2708 : (Jvm.Cond.selects "GangColumns$Cluster$InLine" ({ cls := "java/lang/Object", name := "equals", desc := "(Ljava/lang/Object;)Z" } : Jvm.MethodName) ({ cls := "java/lang/Object", name := "equals", desc := "(Ljava/lang/Object;)Z" } : Jvm.MethodName)) ∈ lw_all := lw_g (lw_at lw_m11 191 rfl) rfl
theorem q2709 : (Jvm.Cond.selects "GangColumns$Column" ({ cls := "java/lang/Object", name := "equals", desc := "(Ljava/lang/Object;)Z" } : Jvm.MethodName) ({ cls := "java/lang/Object", name := "equals", desc := "(Ljava/lang/Object;)Z" } : Jvm.MethodName)) ∈ lw_all := lw_g (lw_at lw_m11 192 rfl) rfl
theorem q2710 : (Jvm.Cond.selects "GangColumns$Event" ({ cls := "java/lang/Object", name := "equals", desc := "(Ljava/lang/Object;)Z" } : Jvm.MethodName) ({ cls := "java/lang/Object", name := "equals", desc := "(Ljava/lang/Object;)Z" } : Jvm.MethodName)) ∈ lw_all := lw_g (lw_at lw_m11 193 rfl) rfl
theorem q2711 : (Jvm.Cond.selects "GangColumns$Fault" ({ cls := "java/lang/Object", name := "equals", desc := "(Ljava/lang/Object;)Z" } : Jvm.MethodName) ({ cls := "java/lang/Object", name := "equals", desc := "(Ljava/lang/Object;)Z" } : Jvm.MethodName)) ∈ lw_all := lw_g (lw_at lw_m11 194 rfl) rfl
theorem q2712 : (Jvm.Cond.selects "GangColumns$Foresight" ({ cls := "java/lang/Object", name := "equals", desc := "(Ljava/lang/Object;)Z" } : Jvm.MethodName) ({ cls := "java/lang/Object", name := "equals", desc := "(Ljava/lang/Object;)Z" } : Jvm.MethodName)) ∈ lw_all := lw_g (lw_at lw_m11 195 rfl) rfl
theorem q2713 : (Jvm.Cond.selects "GangColumns$FreeRuns" ({ cls := "java/lang/Object", name := "equals", desc := "(Ljava/lang/Object;)Z" } : Jvm.MethodName) ({ cls := "java/lang/Object", name := "equals", desc := "(Ljava/lang/Object;)Z" } : Jvm.MethodName)) ∈ lw_all := lw_g (lw_at lw_m11 196 rfl) rfl
theorem q2714 : (Jvm.Cond.selects "GangColumns$FreeRuns$1" ({ cls := "java/lang/Object", name := "equals", desc := "(Ljava/lang/Object;)Z" } : Jvm.MethodName) ({ cls := "java/lang/Object", name := "equals", desc := "(Ljava/lang/Object;)Z" } : Jvm.MethodName)) ∈ lw_all := lw_g (lw_at lw_m11 197 rfl) rfl
theorem q2715 : (Jvm.Cond.selects "GangColumns$Going" ({ cls := "java/lang/Object", name := "equals", desc := "(Ljava/lang/Object;)Z" } : Jvm.MethodName) ({ cls := "java/lang/Object", name := "equals", desc := "(Ljava/lang/Object;)Z" } : Jvm.MethodName)) ∈ lw_all := lw_g (lw_at lw_m11 198 rfl) rfl
theorem q2716 : (Jvm.Cond.selects "GangColumns$Job" ({ cls := "java/lang/Object", name := "equals", desc := "(Ljava/lang/Object;)Z" } : Jvm.MethodName) ({ cls := "java/lang/Object", name := "equals", desc := "(Ljava/lang/Object;)Z" } : Jvm.MethodName)) ∈ lw_all := lw_g (lw_at lw_m11 199 rfl) rfl
theorem q2717 : (Jvm.Cond.selects "GangColumns$Kept" ({ cls := "java/lang/Object", name := "equals", desc := "(Ljava/lang/Object;)Z" } : Jvm.MethodName) ({ cls := "java/lang/Object", name := "equals", desc := "(Ljava/lang/Object;)Z" } : Jvm.MethodName)) ∈ lw_all := lw_g (lw_at lw_m11 200 rfl) rfl
theorem q2718 : (Jvm.Cond.selects "GangColumns$Moves" ({ cls := "java/lang/Object", name := "equals", desc := "(Ljava/lang/Object;)Z" } : Jvm.MethodName) ({ cls := "java/lang/Object", name := "equals", desc := "(Ljava/lang/Object;)Z" } : Jvm.MethodName)) ∈ lw_all := lw_g (lw_at lw_m11 201 rfl) rfl
theorem q2719 : (Jvm.Cond.selects "GangColumns$Orders" ({ cls := "java/lang/Object", name := "equals", desc := "(Ljava/lang/Object;)Z" } : Jvm.MethodName) ({ cls := "java/lang/Object", name := "equals", desc := "(Ljava/lang/Object;)Z" } : Jvm.MethodName)) ∈ lw_all := lw_g (lw_at lw_m11 202 rfl) rfl
theorem q2720 : (Jvm.Cond.selects "GangColumns$Promised" ({ cls := "java/lang/Object", name := "equals", desc := "(Ljava/lang/Object;)Z" } : Jvm.MethodName) ({ cls := "java/lang/Object", name := "equals", desc := "(Ljava/lang/Object;)Z" } : Jvm.MethodName)) ∈ lw_all := lw_g (lw_at lw_m11 203 rfl) rfl
theorem q2721 : (Jvm.Cond.selects "GangColumns$Promises" ({ cls := "java/lang/Object", name := "equals", desc := "(Ljava/lang/Object;)Z" } : Jvm.MethodName) ({ cls := "java/lang/Object", name := "equals", desc := "(Ljava/lang/Object;)Z" } : Jvm.MethodName)) ∈ lw_all := lw_g (lw_at lw_m11 204 rfl) rfl
theorem q2722 : (Jvm.Cond.selects "GangColumns$Run" ({ cls := "java/lang/Object", name := "equals", desc := "(Ljava/lang/Object;)Z" } : Jvm.MethodName) ({ cls := "java/lang/Object", name := "equals", desc := "(Ljava/lang/Object;)Z" } : Jvm.MethodName)) ∈ lw_all := lw_g (lw_at lw_m11 205 rfl) rfl
theorem q2723 : (Jvm.Cond.selects "GangColumns$Runs" ({ cls := "java/lang/Object", name := "equals", desc := "(Ljava/lang/Object;)Z" } : Jvm.MethodName) ({ cls := "java/lang/Object", name := "equals", desc := "(Ljava/lang/Object;)Z" } : Jvm.MethodName)) ∈ lw_all := lw_g (lw_at lw_m11 206 rfl) rfl
theorem q2724 : (Jvm.Cond.selects "GangColumns$Share" ({ cls := "java/lang/Object", name := "equals", desc := "(Ljava/lang/Object;)Z" } : Jvm.MethodName) ({ cls := "java/lang/Object", name := "equals", desc := "(Ljava/lang/Object;)Z" } : Jvm.MethodName)) ∈ lw_all := lw_g (lw_at lw_m11 207 rfl) rfl
theorem q2725 : (Jvm.Cond.selects "GangColumns$Span" ({ cls := "java/lang/Object", name := "equals", desc := "(Ljava/lang/Object;)Z" } : Jvm.MethodName) ({ cls := "java/lang/Object", name := "equals", desc := "(Ljava/lang/Object;)Z" } : Jvm.MethodName)) ∈ lw_all := lw_g (lw_at lw_m11 208 rfl) rfl
theorem q2726 : (Jvm.Cond.selects "GangColumns$WidestGoing" ({ cls := "java/lang/Object", name := "equals", desc := "(Ljava/lang/Object;)Z" } : Jvm.MethodName) ({ cls := "java/lang/Object", name := "equals", desc := "(Ljava/lang/Object;)Z" } : Jvm.MethodName)) ∈ lw_all := lw_g (lw_at lw_m11 209 rfl) rfl
theorem q2727 : (Jvm.Cond.selects "GangColumnsModel" ({ cls := "java/lang/Object", name := "equals", desc := "(Ljava/lang/Object;)Z" } : Jvm.MethodName) ({ cls := "java/lang/Object", name := "equals", desc := "(Ljava/lang/Object;)Z" } : Jvm.MethodName)) ∈ lw_all := lw_g (lw_at lw_m11 210 rfl) rfl
theorem q2728 : (Jvm.Cond.selects "java/lang/Integer" ({ cls := "java/lang/Object", name := "equals", desc := "(Ljava/lang/Object;)Z" } : Jvm.MethodName) ({ cls := "java/lang/Integer", name := "equals", desc := "(Ljava/lang/Object;)Z" } : Jvm.MethodName)) ∈ lw_all := lw_g (lw_at lw_m11 211 rfl) rfl
theorem q2729 : (Jvm.Cond.instanceMethod ({ cls := "java/lang/Integer", name := "equals", desc := "(Ljava/lang/Object;)Z" } : Jvm.MethodName)) ∈ lw_all := lw_g (lw_at lw_m11 212 rfl) rfl
theorem q2730 : (Jvm.Cond.code ({ cls := "java/lang/Integer", name := "equals", desc := "(Ljava/lang/Object;)Z" } : Jvm.MethodName) prog_41_method_34_code (2 : Nat) (Option.some Jvm.ClassFile.FieldType.boolean)) ∈ lw_all := lw_g (lw_at lw_m11 213 rfl) rfl
theorem q2731 : (Jvm.Cond.methodLink "java/lang/Integer" (211 : Nat) ({ cls := "java/lang/Integer", name := "intValue", desc := "()I" } : Jvm.MethodName)) ∈ lw_all := lw_g (lw_at lw_m11 214 rfl) rfl
theorem q2732 : (Jvm.Cond.selects "java/lang/String" ({ cls := "java/lang/Object", name := "equals", desc := "(Ljava/lang/Object;)Z" } : Jvm.MethodName) ({ cls := "java/lang/String", name := "equals", desc := "(Ljava/lang/Object;)Z" } : Jvm.MethodName)) ∈ lw_all := lw_g (lw_at lw_m11 215 rfl) rfl
theorem q2733 : (Jvm.Cond.instanceMethod ({ cls := "java/lang/String", name := "equals", desc := "(Ljava/lang/Object;)Z" } : Jvm.MethodName)) ∈ lw_all := lw_g (lw_at lw_m11 216 rfl) rfl
theorem q2734 : (Jvm.Cond.code ({ cls := "java/lang/String", name := "equals", desc := "(Ljava/lang/Object;)Z" } : Jvm.MethodName) prog_47_method_66_code (3 : Nat) (Option.some Jvm.ClassFile.FieldType.boolean)) ∈ lw_all := lw_g (lw_at lw_m11 217 rfl) rfl
theorem q2735 : (Jvm.Cond.methodLink "java/lang/String" (541 : Nat) ({ cls := "java/lang/StringLatin1", name := "equals", desc := "([B[B)Z" } : Jvm.MethodName)) ∈ lw_all := lw_g (lw_at lw_m11 218 rfl) rfl
theorem q2736 : (Jvm.Cond.static ({ cls := "java/lang/StringLatin1", name := "equals", desc := "([B[B)Z" } : Jvm.MethodName)) ∈ lw_all := lw_g (lw_at lw_m11 219 rfl) rfl
theorem q2737 : (Jvm.Cond.code ({ cls := "java/lang/StringLatin1", name := "equals", desc := "([B[B)Z" } : Jvm.MethodName) prog_49_method_13_code (3 : Nat) (Option.some Jvm.ClassFile.FieldType.boolean)) ∈ lw_all := lw_g (lw_at lw_m11 220 rfl) rfl
theorem q2738 : (Jvm.Cond.selects "java/lang/StringBuilder" ({ cls := "java/lang/Object", name := "equals", desc := "(Ljava/lang/Object;)Z" } : Jvm.MethodName) ({ cls := "java/lang/Object", name := "equals", desc := "(Ljava/lang/Object;)Z" } : Jvm.MethodName)) ∈ lw_all := lw_g (lw_at lw_m11 221 rfl) rfl
theorem q2739 : (Jvm.Cond.selects "jdk/internal/misc/Unsafe" ({ cls := "java/lang/Object", name := "equals", desc := "(Ljava/lang/Object;)Z" } : Jvm.MethodName) ({ cls := "java/lang/Object", name := "equals", desc := "(Ljava/lang/Object;)Z" } : Jvm.MethodName)) ∈ lw_all := lw_g (lw_at lw_m11 222 rfl) rfl
theorem q2740 : (Jvm.Cond.code ({ cls := "java/lang/Object", name := "equals", desc := "(Ljava/lang/Object;)Z" } : Jvm.MethodName) object_method_4_code (2 : Nat) (Option.some Jvm.ClassFile.FieldType.boolean)) ∈ lw_all := lw_g (lw_at lw_m11 223 rfl) rfl
theorem q2741 : (Jvm.Cond.interfaceEntry "java/util/TreeMap" (90 : Nat)) ∈ lw_tbl := lw_at lw_m11 224 rfl
theorem q2742 : (Jvm.Cond.methodLink "java/util/TreeMap" (90 : Nat) ({ cls := "java/util/Map", name := "entrySet", desc := "()Ljava/util/Set;" } : Jvm.MethodName)) ∈ lw_all := lw_g (lw_at lw_m11 225 rfl) rfl
theorem q2743 : (Jvm.Cond.interfaceMethod "java/util/Map" "java/util/Map" "entrySet" "()Ljava/util/Set;") ∈ lw_tbl := lw_at lw_m11 226 rfl
theorem q2744 : (Jvm.Cond.declares ({ cls := "java/util/Map", name := "entrySet", desc := "()Ljava/util/Set;" } : Jvm.MethodName)) ∈ lw_tbl := lw_at lw_m11 227 rfl
theorem q2745 : (Jvm.Cond.selects "java/util/TreeMap" ({ cls := "java/util/Map", name := "entrySet", desc := "()Ljava/util/Set;" } : Jvm.MethodName) ({ cls := "java/util/TreeMap", name := "entrySet", desc := "()Ljava/util/Set;" } : Jvm.MethodName)) ∈ lw_all := lw_g (lw_at lw_m11 228 rfl) rfl
theorem q2746 : (Jvm.Cond.unhidden "java/util/TreeMap" "entrySet" "()Ljava/util/Set;") ∈ lw_tbl := lw_at lw_m11 229 rfl
theorem q2747 : (Jvm.Cond.instanceMethod ({ cls := "java/util/TreeMap", name := "entrySet", desc := "()Ljava/util/Set;" } : Jvm.MethodName)) ∈ lw_all := lw_g (lw_at lw_m11 230 rfl) rfl
theorem q2748 : (Jvm.Cond.publicMethod ({ cls := "java/util/TreeMap", name := "entrySet", desc := "()Ljava/util/Set;" } : Jvm.MethodName)) ∈ lw_tbl := lw_at lw_m11 231 rfl
theorem q2749 : (Jvm.Cond.code ({ cls := "java/util/TreeMap", name := "entrySet", desc := "()Ljava/util/Set;" } : Jvm.MethodName) prog_83_method_53_code (2 : Nat) (Option.some (Jvm.ClassFile.FieldType.object "java/util/Set"))) ∈ lw_all := lw_g (lw_at lw_m11 232 rfl) rfl
theorem q2750 : (Jvm.Cond.classLink "java/util/TreeMap" (242 : Nat) "java/util/TreeMap$EntrySet") ∈ lw_all := lw_g (lw_at lw_m11 233 rfl) rfl
theorem q2751 : (Jvm.Cond.instantiable "java/util/TreeMap$EntrySet" (1 : Nat)) ∈ lw_all := lw_g (lw_at lw_m11 234 rfl) rfl
theorem q2752 : (Jvm.Cond.methodLink "java/util/TreeMap" (244 : Nat) ({ cls := "java/util/TreeMap$EntrySet", name := "<init>", desc := "(Ljava/util/TreeMap;)V" } : Jvm.MethodName)) ∈ lw_all := lw_g (lw_at lw_m11 235 rfl) rfl
theorem q2753 : (Jvm.Cond.instanceMethod ({ cls := "java/util/TreeMap$EntrySet", name := "<init>", desc := "(Ljava/util/TreeMap;)V" } : Jvm.MethodName)) ∈ lw_all := lw_g (lw_at lw_m11 236 rfl) rfl
theorem q2754 : (Jvm.Cond.code ({ cls := "java/util/TreeMap$EntrySet", name := "<init>", desc := "(Ljava/util/TreeMap;)V" } : Jvm.MethodName) prog_86_method_1_code (2 : Nat) (Option.none : Option Jvm.ClassFile.FieldType)) ∈ lw_all := lw_g (lw_at lw_m11 237 rfl) rfl
theorem q2755 : (Jvm.Cond.methodLink "java/util/TreeMap$EntrySet" (7 : Nat) ({ cls := "java/util/AbstractSet", name := "<init>", desc := "()V" } : Jvm.MethodName)) ∈ lw_all := lw_g (lw_at lw_m11 238 rfl) rfl
theorem q2756 : (Jvm.Cond.fieldLink "java/util/TreeMap$EntrySet" (1 : Nat) "java/util/TreeMap$EntrySet" "this$0" "Ljava/util/TreeMap;") ∈ lw_all := lw_g (lw_at lw_m11 239 rfl) rfl
theorem q2757 : (Jvm.Cond.laysFinal "java/util/TreeMap$EntrySet" "java/util/TreeMap$EntrySet" "this$0" "Ljava/util/TreeMap;") ∈ lw_all := lw_g (lw_at lw_m12 0 rfl) rfl
theorem q2758 : (Jvm.Cond.soleField "java/util/TreeMap$EntrySet" "this$0") ∈ lw_all := lw_g (lw_at lw_m12 1 rfl) rfl
theorem q2759 : (Jvm.Cond.superclass "java/util/TreeMap$EntrySet" "java/util/AbstractSet") ∈ lw_all := lw_g (lw_at lw_m12 2 rfl) rfl
theorem q2760 : (Jvm.Cond.interfaceEntry "java/util/TreeMap" (36 : Nat)) ∈ lw_tbl := lw_at lw_m12 3 rfl
theorem q2761 : (Jvm.Cond.methodLink "java/util/TreeMap" (36 : Nat) ({ cls := "java/util/Set", name := "iterator", desc := "()Ljava/util/Iterator;" } : Jvm.MethodName)) ∈ lw_all := lw_g (lw_at lw_m12 4 rfl) rfl
theorem q2762 : (Jvm.Cond.interfaceMethod "java/util/Set" "java/util/Set" "iterator" "()Ljava/util/Iterator;") ∈ lw_tbl := lw_at lw_m12 5 rfl
theorem q2763 : (Jvm.Cond.declares ({ cls := "java/util/Set", name := "iterator", desc := "()Ljava/util/Iterator;" } : Jvm.MethodName)) ∈ lw_tbl := lw_at lw_m12 6 rfl
theorem q2764 : (Jvm.Cond.castable "java/util/TreeMap$EntrySet" "java/util/Set") ∈ lw_tbl := lw_at lw_m12 7 rfl
theorem q2765 : (Jvm.Cond.selects "java/util/TreeMap$EntrySet" ({ cls := "java/util/Set", name := "iterator", desc := "()Ljava/util/Iterator;" } : Jvm.MethodName) ({ cls := "java/util/TreeMap$EntrySet", name := "iterator", desc := "()Ljava/util/Iterator;" } : Jvm.MethodName)) ∈ lw_all := lw_g (lw_at lw_m12 8 rfl) rfl
theorem q2766 : (Jvm.Cond.castable "java/util/TreeMap$KeySet" "java/util/Set") ∈ lw_tbl := lw_at lw_m12 9 rfl
theorem q2767 : (Jvm.Cond.selects "java/util/TreeMap$KeySet" ({ cls := "java/util/Set", name := "iterator", desc := "()Ljava/util/Iterator;" } : Jvm.MethodName) ({ cls := "java/util/TreeMap$KeySet", name := "iterator", desc := "()Ljava/util/Iterator;" } : Jvm.MethodName)) ∈ lw_all := lw_g (lw_at lw_m12 10 rfl) rfl
theorem q2768 : (Jvm.Cond.castable "java/util/TreeSet" "java/util/Set") ∈ lw_tbl := lw_at lw_m12 11 rfl
theorem q2769 : (Jvm.Cond.selects "java/util/TreeSet" ({ cls := "java/util/Set", name := "iterator", desc := "()Ljava/util/Iterator;" } : Jvm.MethodName) ({ cls := "java/util/TreeSet", name := "iterator", desc := "()Ljava/util/Iterator;" } : Jvm.MethodName)) ∈ lw_all := lw_g (lw_at lw_m12 12 rfl) rfl
theorem q2770 : (Jvm.Cond.methodLink "java/util/TreeMap" (42 : Nat) ({ cls := "java/util/TreeMap", name := "buildFromSorted", desc := "(ILjava/util/Iterator;Ljava/io/ObjectInputStream;Ljava/lang/Object;)V" } : Jvm.MethodName)) ∈ lw_all := lw_g (lw_at lw_m12 13 rfl) rfl
theorem q2771 : (Jvm.Cond.privateMethod ({ cls := "java/util/TreeMap", name := "buildFromSorted", desc := "(ILjava/util/Iterator;Ljava/io/ObjectInputStream;Ljava/lang/Object;)V" } : Jvm.MethodName)) ∈ lw_tbl := lw_at lw_m12 14 rfl
theorem q2772 : (Jvm.Cond.instanceMethod ({ cls := "java/util/TreeMap", name := "buildFromSorted", desc := "(ILjava/util/Iterator;Ljava/io/ObjectInputStream;Ljava/lang/Object;)V" } : Jvm.MethodName)) ∈ lw_all := lw_g (lw_at lw_m12 15 rfl) rfl
theorem q2773 : (Jvm.Cond.code ({ cls := "java/util/TreeMap", name := "buildFromSorted", desc := "(ILjava/util/Iterator;Ljava/io/ObjectInputStream;Ljava/lang/Object;)V" } : Jvm.MethodName) prog_83_method_90_code (5 : Nat) (Option.none : Option Jvm.ClassFile.FieldType)) ∈ lw_all := lw_g (lw_at lw_m12 16 rfl) rfl
theorem q2774 : (Jvm.Cond.methodLink "java/util/TreeMap" (362 : Nat) ({ cls := "java/util/TreeMap", name := "computeRedLevel", desc := "(I)I" } : Jvm.MethodName)) ∈ lw_all := lw_g (lw_at lw_m12 17 rfl) rfl
theorem q2775 : (Jvm.Cond.static ({ cls := "java/util/TreeMap", name := "computeRedLevel", desc := "(I)I" } : Jvm.MethodName)) ∈ lw_all := lw_g (lw_at lw_m12 18 rfl) rfl
theorem q2776 : (Jvm.Cond.code ({ cls := "java/util/TreeMap", name := "computeRedLevel", desc := "(I)I" } : Jvm.MethodName) prog_83_method_92_code (1 : Nat) (Option.some Jvm.ClassFile.FieldType.int)) ∈ lw_all := lw_g (lw_at lw_m12 19 rfl) rfl
theorem q2777 : (Jvm.Cond.methodLink "java/util/TreeMap" (372 : Nat) ({ cls := "java/lang/Integer", name := "numberOfLeadingZeros", desc := "(I)I" } : Jvm.MethodName)) ∈ lw_all := lw_g (lw_at lw_m12 20 rfl) rfl
theorem q2778 : (Jvm.Cond.methodLink "java/util/TreeMap" (366 : Nat) ({ cls := "java/util/TreeMap", name := "buildFromSorted", desc := "(IIIILjava/util/Iterator;Ljava/io/ObjectInputStream;Ljava/lang/Object;)Ljava/util/TreeMap$Entry;" } : Jvm.MethodName)) ∈ lw_all := lw_g (lw_at lw_m12 21 rfl) rfl
theorem q2779 : (Jvm.Cond.privateMethod ({ cls := "java/util/TreeMap", name := "buildFromSorted", desc := "(IIIILjava/util/Iterator;Ljava/io/ObjectInputStream;Ljava/lang/Object;)Ljava/util/TreeMap$Entry;" } : Jvm.MethodName)) ∈ lw_tbl := lw_at lw_m12 22 rfl
theorem q2780 : (Jvm.Cond.instanceMethod ({ cls := "java/util/TreeMap", name := "buildFromSorted", desc := "(IIIILjava/util/Iterator;Ljava/io/ObjectInputStream;Ljava/lang/Object;)Ljava/util/TreeMap$Entry;" } : Jvm.MethodName)) ∈ lw_all := lw_g (lw_at lw_m12 23 rfl) rfl
theorem q2781 : (Jvm.Cond.code ({ cls := "java/util/TreeMap", name := "buildFromSorted", desc := "(IIIILjava/util/Iterator;Ljava/io/ObjectInputStream;Ljava/lang/Object;)Ljava/util/TreeMap$Entry;" } : Jvm.MethodName) prog_83_method_91_code (14 : Nat) (Option.some (Jvm.ClassFile.FieldType.object "java/util/TreeMap$Entry"))) ∈ lw_all := lw_g (lw_at lw_m12 24 rfl) rfl
theorem q2782 : (Jvm.Cond.interfaceEntry "java/util/TreeMap" (335 : Nat)) ∈ lw_tbl := lw_at lw_m12 25 rfl
theorem q2783 : (Jvm.Cond.methodLink "java/util/TreeMap" (335 : Nat) ({ cls := "java/util/Iterator", name := "next", desc := "()Ljava/lang/Object;" } : Jvm.MethodName)) ∈ lw_all := lw_g (lw_at lw_m12 26 rfl) rfl
theorem q2784 : (Jvm.Cond.classLink "java/util/TreeMap" (338 : Nat) "java/util/Map$Entry") ∈ lw_all := lw_g (lw_at lw_m12 27 rfl) rfl
theorem q2785 : (Jvm.Cond.interfaceEntry "java/util/TreeMap" (340 : Nat)) ∈ lw_tbl := lw_at lw_m12 28 rfl
theorem q2786 : (Jvm.Cond.methodLink "java/util/TreeMap" (340 : Nat) ({ cls := "java/util/Map$Entry", name := "getKey", desc := "()Ljava/lang/Object;" } : Jvm.MethodName)) ∈ lw_all := lw_g (lw_at lw_m12 29 rfl) rfl
theorem q2787 : (Jvm.Cond.interfaceMethod "java/util/Map$Entry" "java/util/Map$Entry" "getKey" "()Ljava/lang/Object;") ∈ lw_tbl := lw_at lw_m12 30 rfl
theorem q2788 : (Jvm.Cond.declares ({ cls := "java/util/Map$Entry", name := "getKey", desc := "()Ljava/lang/Object;" } : Jvm.MethodName)) ∈ lw_tbl := lw_at lw_m12 31 rfl
theorem q2789 : (Jvm.Cond.castable "java/util/TreeMap$Entry" "java/util/Map$Entry") ∈ lw_tbl := lw_at lw_m12 32 rfl
theorem q2790 : (Jvm.Cond.selects "java/util/TreeMap$Entry" ({ cls := "java/util/Map$Entry", name := "getKey", desc := "()Ljava/lang/Object;" } : Jvm.MethodName) ({ cls := "java/util/TreeMap$Entry", name := "getKey", desc := "()Ljava/lang/Object;" } : Jvm.MethodName)) ∈ lw_all := lw_g (lw_at lw_m12 33 rfl) rfl
theorem q2791 : (Jvm.Cond.unhidden "java/util/TreeMap$Entry" "getKey" "()Ljava/lang/Object;") ∈ lw_tbl := lw_at lw_m12 34 rfl
theorem q2792 : (Jvm.Cond.instanceMethod ({ cls := "java/util/TreeMap$Entry", name := "getKey", desc := "()Ljava/lang/Object;" } : Jvm.MethodName)) ∈ lw_all := lw_g (lw_at lw_m12 35 rfl) rfl
theorem q2793 : (Jvm.Cond.publicMethod ({ cls := "java/util/TreeMap$Entry", name := "getKey", desc := "()Ljava/lang/Object;" } : Jvm.MethodName)) ∈ lw_tbl := lw_at lw_m12 36 rfl
theorem q2794 : (Jvm.Cond.code ({ cls := "java/util/TreeMap$Entry", name := "getKey", desc := "()Ljava/lang/Object;" } : Jvm.MethodName) prog_84_method_2_code (1 : Nat) (Option.some (Jvm.ClassFile.FieldType.object "java/lang/Object"))) ∈ lw_all := lw_g (lw_at lw_m12 37 rfl) rfl
theorem q2795 : (Jvm.Cond.interfaceEntry "java/util/TreeMap" (347 : Nat)) ∈ lw_tbl := lw_at lw_m12 38 rfl
theorem q2796 : (Jvm.Cond.methodLink "java/util/TreeMap" (347 : Nat) ({ cls := "java/util/Map$Entry", name := "getValue", desc := "()Ljava/lang/Object;" } : Jvm.MethodName)) ∈ lw_all := lw_g (lw_at lw_m12 39 rfl) rfl
theorem q2797 : (Jvm.Cond.interfaceMethod "java/util/Map$Entry" "java/util/Map$Entry" "getValue" "()Ljava/lang/Object;") ∈ lw_tbl := lw_at lw_m12 40 rfl
theorem q2798 : (Jvm.Cond.declares ({ cls := "java/util/Map$Entry", name := "getValue", desc := "()Ljava/lang/Object;" } : Jvm.MethodName)) ∈ lw_tbl := lw_at lw_m12 41 rfl
theorem q2799 : (Jvm.Cond.selects "java/util/TreeMap$Entry" ({ cls := "java/util/Map$Entry", name := "getValue", desc := "()Ljava/lang/Object;" } : Jvm.MethodName) ({ cls := "java/util/TreeMap$Entry", name := "getValue", desc := "()Ljava/lang/Object;" } : Jvm.MethodName)) ∈ lw_all := lw_g (lw_at lw_m12 42 rfl) rfl
theorem q2800 : (Jvm.Cond.unhidden "java/util/TreeMap$Entry" "getValue" "()Ljava/lang/Object;") ∈ lw_tbl := lw_at lw_m12 43 rfl
theorem q2801 : (Jvm.Cond.instanceMethod ({ cls := "java/util/TreeMap$Entry", name := "getValue", desc := "()Ljava/lang/Object;" } : Jvm.MethodName)) ∈ lw_all := lw_g (lw_at lw_m12 44 rfl) rfl
theorem q2802 : (Jvm.Cond.publicMethod ({ cls := "java/util/TreeMap$Entry", name := "getValue", desc := "()Ljava/lang/Object;" } : Jvm.MethodName)) ∈ lw_tbl := lw_at lw_m12 45 rfl
theorem q2803 : (Jvm.Cond.code ({ cls := "java/util/TreeMap$Entry", name := "getValue", desc := "()Ljava/lang/Object;" } : Jvm.MethodName) prog_84_method_3_code (1 : Nat) (Option.some (Jvm.ClassFile.FieldType.object "java/lang/Object"))) ∈ lw_all := lw_g (lw_at lw_m12 46 rfl) rfl
theorem q2804 : (Jvm.Cond.methodLink "java/util/TreeMap" (91 : Nat) ({ cls := "java/util/AbstractMap", name := "putAll", desc := "(Ljava/util/Map;)V" } : Jvm.MethodName)) ∈ lw_all := lw_g (lw_at lw_m12 47 rfl) rfl
theorem q2805 : (Jvm.Cond.instanceMethod ({ cls := "java/util/AbstractMap", name := "putAll", desc := "(Ljava/util/Map;)V" } : Jvm.MethodName)) ∈ lw_all := lw_g (lw_at lw_m12 48 rfl) rfl
theorem q2806 : (Jvm.Cond.code ({ cls := "java/util/AbstractMap", name := "putAll", desc := "(Ljava/util/Map;)V" } : Jvm.MethodName) prog_57_method_9_code (4 : Nat) (Option.none : Option Jvm.ClassFile.FieldType)) ∈ lw_all := lw_g (lw_at lw_m12 49 rfl) rfl
theorem q2807 : (Jvm.Cond.interfaceEntry "java/util/AbstractMap" (52 : Nat)) ∈ lw_tbl := lw_at lw_m12 50 rfl
theorem q2808 : (Jvm.Cond.methodLink "java/util/AbstractMap" (52 : Nat) ({ cls := "java/util/Map", name := "entrySet", desc := "()Ljava/util/Set;" } : Jvm.MethodName)) ∈ lw_all := lw_g (lw_at lw_m12 51 rfl) rfl
theorem q2809 : (Jvm.Cond.interfaceEntry "java/util/AbstractMap" (20 : Nat)) ∈ lw_tbl := lw_at lw_m12 52 rfl
theorem q2810 : (Jvm.Cond.methodLink "java/util/AbstractMap" (20 : Nat) ({ cls := "java/util/Set", name := "iterator", desc := "()Ljava/util/Iterator;" } : Jvm.MethodName)) ∈ lw_all := lw_g (lw_at lw_m12 53 rfl) rfl
theorem q2811 : (Jvm.Cond.interfaceEntry "java/util/AbstractMap" (24 : Nat)) ∈ lw_tbl := lw_at lw_m12 54 rfl
theorem q2812 : (Jvm.Cond.methodLink "java/util/AbstractMap" (24 : Nat) ({ cls := "java/util/Iterator", name := "hasNext", desc := "()Z" } : Jvm.MethodName)) ∈ lw_all := lw_g (lw_at lw_m12 55 rfl) rfl
theorem q2813 : (Jvm.Cond.interfaceEntry "java/util/AbstractMap" (30 : Nat)) ∈ lw_tbl := lw_at lw_m12 56 rfl
theorem q2814 : (Jvm.Cond.methodLink "java/util/AbstractMap" (30 : Nat) ({ cls := "java/util/Iterator", name := "next", desc := "()Ljava/lang/Object;" } : Jvm.MethodName)) ∈ lw_all := lw_g (lw_at lw_m12 57 rfl) rfl
theorem q2815 : (Jvm.Cond.classLink "java/util/AbstractMap" (34 : Nat) "java/util/Map$Entry") ∈ lw_all := lw_g (lw_at lw_m12 58 rfl) rfl
theorem q2816 : (Jvm.Cond.interfaceEntry "java/util/AbstractMap" (43 : Nat)) ∈ lw_tbl := lw_at lw_m12 59 rfl
theorem q2817 : (Jvm.Cond.methodLink "java/util/AbstractMap" (43 : Nat) ({ cls := "java/util/Map$Entry", name := "getKey", desc := "()Ljava/lang/Object;" } : Jvm.MethodName)) ∈ lw_all := lw_g (lw_at lw_m12 60 rfl) rfl
theorem q2818 : (Jvm.Cond.interfaceEntry "java/util/AbstractMap" (36 : Nat)) ∈ lw_tbl := lw_at lw_m12 61 rfl
theorem q2819 : (Jvm.Cond.methodLink "java/util/AbstractMap" (36 : Nat) ({ cls := "java/util/Map$Entry", name := "getValue", desc := "()Ljava/lang/Object;" } : Jvm.MethodName)) ∈ lw_all := lw_g (lw_at lw_m12 62 rfl) rfl
theorem q2820 : (Jvm.Cond.methodLink "java/util/AbstractMap" (55 : Nat) ({ cls := "java/util/AbstractMap", name := "put", desc := "(Ljava/lang/Object;Ljava/lang/Object;)Ljava/lang/Object;" } : Jvm.MethodName)) ∈ lw_all := lw_g (lw_at lw_m12 63 rfl) rfl
theorem q2821 : (Jvm.Cond.instanceMethod ({ cls := "java/util/AbstractMap", name := "put", desc := "(Ljava/lang/Object;Ljava/lang/Object;)Ljava/lang/Object;" } : Jvm.MethodName)) ∈ lw_all := lw_g (lw_at lw_m12 64 rfl) rfl
theorem q2822 : (Jvm.Cond.sameMethod "java/util/AbstractMap" "java/util/AbstractMap" "put" "(Ljava/lang/Object;Ljava/lang/Object;)Ljava/lang/Object;") ∈ lw_all := lw_g (lw_at lw_m12 65 rfl) rfl
theorem q2823 : (Jvm.Cond.selects "java/util/TreeMap" ({ cls := "java/util/AbstractMap", name := "put", desc := "(Ljava/lang/Object;Ljava/lang/Object;)Ljava/lang/Object;" } : Jvm.MethodName) ({ cls := "java/util/TreeMap", name := "put", desc := "(Ljava/lang/Object;Ljava/lang/Object;)Ljava/lang/Object;" } : Jvm.MethodName)) ∈ lw_all := lw_g (lw_at lw_m12 66 rfl) rfl
theorem q2824 : (Jvm.Cond.declares ({ cls := "java/util/AbstractMap", name := "put", desc := "(Ljava/lang/Object;Ljava/lang/Object;)Ljava/lang/Object;" } : Jvm.MethodName)) ∈ lw_tbl := lw_at lw_m12 67 rfl
theorem q2825 : (Jvm.Cond.methodLink "GangColumnsLaw" (91 : Nat) ({ cls := "GangColumns", name := "pass", desc := "()I" } : Jvm.MethodName)) ∈ lw_all := lw_g (lw_at lw_m12 68 rfl) rfl
theorem q2826 : (Jvm.Cond.instanceMethod ({ cls := "GangColumns", name := "pass", desc := "()I" } : Jvm.MethodName)) ∈ lw_all := lw_g (lw_at lw_m12 69 rfl) rfl
theorem q2827 : (Jvm.Cond.selects "GangColumns" ({ cls := "GangColumns", name := "pass", desc := "()I" } : Jvm.MethodName) ({ cls := "GangColumns", name := "pass", desc := "()I" } : Jvm.MethodName)) ∈ lw_all := lw_g (lw_at lw_m12 70 rfl) rfl
theorem q2828 : (Jvm.Cond.code ({ cls := "GangColumns", name := "pass", desc := "()I" } : Jvm.MethodName) prog_1_method_32_code (1 : Nat) (Option.some Jvm.ClassFile.FieldType.int)) ∈ lw_all := lw_g (lw_at lw_m12 71 rfl) rfl
theorem q2829 : (Jvm.Cond.methodLink "GangColumns" (337 : Nat) ({ cls := "GangColumns$Cluster", name := "pass", desc := "(LGangColumns$Starts;)I" } : Jvm.MethodName)) ∈ lw_all := lw_g (lw_at lw_m12 72 rfl) rfl
theorem q2830 : (Jvm.Cond.methodLink "GangColumnsLaw" (96 : Nat) ({ cls := "GangColumns", name := "holder", desc := "(I)I" } : Jvm.MethodName)) ∈ lw_all := lw_g (lw_at lw_m12 73 rfl) rfl
theorem q2831 : (Jvm.Cond.instanceMethod ({ cls := "GangColumns", name := "holder", desc := "(I)I" } : Jvm.MethodName)) ∈ lw_all := lw_g (lw_at lw_m12 74 rfl) rfl
theorem q2832 : (Jvm.Cond.selects "GangColumns" ({ cls := "GangColumns", name := "holder", desc := "(I)I" } : Jvm.MethodName) ({ cls := "GangColumns", name := "holder", desc := "(I)I" } : Jvm.MethodName)) ∈ lw_all := lw_g (lw_at lw_m12 75 rfl) rfl
theorem q2833 : (Jvm.Cond.code ({ cls := "GangColumns", name := "holder", desc := "(I)I" } : Jvm.MethodName) prog_1_method_34_code (2 : Nat) (Option.some Jvm.ClassFile.FieldType.int)) ∈ lw_all := lw_g (lw_at lw_m12 76 rfl) rfl
theorem q2834 : (Jvm.Cond.static ({ cls := "GangColumns", name := "lambda$holder$0", desc := "(LGangColumns$Hold;)Z" } : Jvm.MethodName)) ∈ lw_all := lw_g (lw_at lw_m12 77 rfl) rfl
theorem q2835 : (Jvm.Cond.code ({ cls := "GangColumns", name := "lambda$holder$0", desc := "(LGangColumns$Hold;)Z" } : Jvm.MethodName) prog_1_method_62_code (1 : Nat) (Option.some Jvm.ClassFile.FieldType.boolean)) ∈ lw_all := lw_g (lw_at lw_m12 78 rfl) rfl
theorem q2836 : (Jvm.Cond.classLink "GangColumns" (516 : Nat) "GangColumns$Runs") ∈ lw_all := lw_g (lw_at lw_m12 79 rfl) rfl
theorem q2837 : (Jvm.Cond.methodLink "GangColumns" (357 : Nat) ({ cls := "GangColumns", name := "heldBy", desc := "(IILGangColumns$Matters;)I" } : Jvm.MethodName)) ∈ lw_all := lw_g (lw_at lw_m12 80 rfl) rfl
theorem q2838 : (Jvm.Cond.privateMethod ({ cls := "GangColumns", name := "heldBy", desc := "(IILGangColumns$Matters;)I" } : Jvm.MethodName)) ∈ lw_tbl := lw_at lw_m12 81 rfl
theorem q2839 : (Jvm.Cond.instanceMethod ({ cls := "GangColumns", name := "heldBy", desc := "(IILGangColumns$Matters;)I" } : Jvm.MethodName)) ∈ lw_all := lw_g (lw_at lw_m12 82 rfl) rfl
theorem q2840 : (Jvm.Cond.code ({ cls := "GangColumns", name := "heldBy", desc := "(IILGangColumns$Matters;)I" } : Jvm.MethodName) prog_1_method_33_code (5 : Nat) (Option.some Jvm.ClassFile.FieldType.int)) ∈ lw_all := lw_g (lw_at lw_m12 83 rfl) rfl
theorem q2841 : (Jvm.Cond.methodLink "GangColumns" (344 : Nat) ({ cls := "GangColumns$Column", name := "at", desc := "(ILGangColumns$Matters;)LGangColumns$Hold;" } : Jvm.MethodName)) ∈ lw_all := lw_g (lw_at lw_m12 84 rfl) rfl
theorem q2842 : (Jvm.Cond.instanceMethod ({ cls := "GangColumns$Column", name := "at", desc := "(ILGangColumns$Matters;)LGangColumns$Hold;" } : Jvm.MethodName)) ∈ lw_all := lw_g (lw_at lw_m12 85 rfl) rfl
theorem q2843 : (Jvm.Cond.selects "GangColumns$Column" ({ cls := "GangColumns$Column", name := "at", desc := "(ILGangColumns$Matters;)LGangColumns$Hold;" } : Jvm.MethodName) ({ cls := "GangColumns$Column", name := "at", desc := "(ILGangColumns$Matters;)LGangColumns$Hold;" } : Jvm.MethodName)) ∈ lw_all := lw_g (lw_at lw_m12 86 rfl) rfl
theorem q2844 : (Jvm.Cond.code ({ cls := "GangColumns$Column", name := "at", desc := "(ILGangColumns$Matters;)LGangColumns$Hold;" } : Jvm.MethodName) prog_10_method_4_code (5 : Nat) (Option.some (Jvm.ClassFile.FieldType.object "GangColumns$Hold"))) ∈ lw_all := lw_g (lw_at lw_m12 87 rfl) rfl
theorem q2845 : (Jvm.Cond.methodLink "GangColumns$Column" (44 : Nat) ({ cls := "java/util/ArrayList", name := "iterator", desc := "()Ljava/util/Iterator;" } : Jvm.MethodName)) ∈ lw_all := lw_g (lw_at lw_m12 88 rfl) rfl
theorem q2846 : (Jvm.Cond.interfaceEntry "GangColumns$Column" (48 : Nat)) ∈ lw_tbl := lw_at lw_m12 89 rfl
theorem q2847 : (Jvm.Cond.methodLink "GangColumns$Column" (48 : Nat) ({ cls := "java/util/Iterator", name := "hasNext", desc := "()Z" } : Jvm.MethodName)) ∈ lw_all := lw_g (lw_at lw_m12 90 rfl) rfl
theorem q2848 : (Jvm.Cond.interfaceEntry "GangColumns$Column" (54 : Nat)) ∈ lw_tbl := lw_at lw_m12 91 rfl
theorem q2849 : (Jvm.Cond.methodLink "GangColumns$Column" (54 : Nat) ({ cls := "java/util/Iterator", name := "next", desc := "()Ljava/lang/Object;" } : Jvm.MethodName)) ∈ lw_all := lw_g (lw_at lw_m12 92 rfl) rfl
theorem q2850 : (Jvm.Cond.methodLink "GangColumns" (350 : Nat) ({ cls := "GangColumns$Hold", name := "of", desc := "()I" } : Jvm.MethodName)) ∈ lw_all := lw_g (lw_at lw_m12 93 rfl) rfl
theorem q2851 : (Jvm.Cond.methodLink "GangColumnsLaw" (100 : Nat) ({ cls := "GangColumns", name := "promised", desc := "(II)I" } : Jvm.MethodName)) ∈ lw_all := lw_g (lw_at lw_m12 94 rfl) rfl
theorem q2852 : (Jvm.Cond.instanceMethod ({ cls := "GangColumns", name := "promised", desc := "(II)I" } : Jvm.MethodName)) ∈ lw_all := lw_g (lw_at lw_m12 95 rfl) rfl
theorem q2853 : (Jvm.Cond.selects "GangColumns" ({ cls := "GangColumns", name := "promised", desc := "(II)I" } : Jvm.MethodName) ({ cls := "GangColumns", name := "promised", desc := "(II)I" } : Jvm.MethodName)) ∈ lw_all := lw_g (lw_at lw_m12 96 rfl) rfl
theorem q2854 : (Jvm.Cond.code ({ cls := "GangColumns", name := "promised", desc := "(II)I" } : Jvm.MethodName) prog_1_method_35_code (3 : Nat) (Option.some Jvm.ClassFile.FieldType.int)) ∈ lw_all := lw_g (lw_at lw_m12 97 rfl) rfl
theorem q2855 : (Jvm.Cond.static ({ cls := "GangColumns", name := "lambda$promised$1", desc := "(LGangColumns$Hold;)Z" } : Jvm.MethodName)) ∈ lw_all := lw_g (lw_at lw_m12 98 rfl) rfl
theorem q2856 : (Jvm.Cond.code ({ cls := "GangColumns", name := "lambda$promised$1", desc := "(LGangColumns$Hold;)Z" } : Jvm.MethodName) prog_1_method_61_code (1 : Nat) (Option.some Jvm.ClassFile.FieldType.boolean)) ∈ lw_all := lw_g (lw_at lw_m12 99 rfl) rfl
theorem q2857 : (Jvm.Cond.classLink "GangColumns" (514 : Nat) "GangColumns$Promised") ∈ lw_all := lw_g (lw_at lw_m12 100 rfl) rfl
theorem q2858 : (Jvm.Cond.methodLink "GangColumnsLaw" (104 : Nat) ({ cls := "GangColumns", name := "foretell", desc := "(I)I" } : Jvm.MethodName)) ∈ lw_all := lw_g (lw_at lw_m12 101 rfl) rfl
theorem q2859 : (Jvm.Cond.instanceMethod ({ cls := "GangColumns", name := "foretell", desc := "(I)I" } : Jvm.MethodName)) ∈ lw_all := lw_g (lw_at lw_m12 102 rfl) rfl
theorem q2860 : (Jvm.Cond.selects "GangColumns" ({ cls := "GangColumns", name := "foretell", desc := "(I)I" } : Jvm.MethodName) ({ cls := "GangColumns", name := "foretell", desc := "(I)I" } : Jvm.MethodName)) ∈ lw_all := lw_g (lw_at lw_m12 103 rfl) rfl
theorem q2861 : (Jvm.Cond.code ({ cls := "GangColumns", name := "foretell", desc := "(I)I" } : Jvm.MethodName) prog_1_method_36_code (4 : Nat) (Option.some Jvm.ClassFile.FieldType.int)) ∈ lw_all := lw_g (lw_at lw_m12 104 rfl) rfl
theorem q2862 : (Jvm.Cond.classLink "GangColumns" (362 : Nat) "GangColumns$Foresight") ∈ lw_all := lw_g (lw_at lw_m12 105 rfl) rfl
theorem q2863 : (Jvm.Cond.instantiable "GangColumns$Foresight" (3 : Nat)) ∈ lw_all := lw_g (lw_at lw_m12 106 rfl) rfl
theorem q2864 : (Jvm.Cond.methodLink "GangColumns" (364 : Nat) ({ cls := "GangColumns$Foresight", name := "<init>", desc := "(LGangColumns;[LGangColumns$Job;)V" } : Jvm.MethodName)) ∈ lw_all := lw_g (lw_at lw_m12 107 rfl) rfl
theorem q2865 : (Jvm.Cond.instanceMethod ({ cls := "GangColumns$Foresight", name := "<init>", desc := "(LGangColumns;[LGangColumns$Job;)V" } : Jvm.MethodName)) ∈ lw_all := lw_g (lw_at lw_m12 108 rfl) rfl
theorem q2866 : (Jvm.Cond.code ({ cls := "GangColumns$Foresight", name := "<init>", desc := "(LGangColumns;[LGangColumns$Job;)V" } : Jvm.MethodName) prog_13_method_1_code (7 : Nat) (Option.none : Option Jvm.ClassFile.FieldType)) ∈ lw_all := lw_g (lw_at lw_m12 109 rfl) rfl
theorem q2867 : (Jvm.Cond.methodLink "GangColumns$Foresight" (9 : Nat) ({ cls := "java/lang/Object", name := "<init>", desc := "()V" } : Jvm.MethodName)) ∈ lw_all := lw_g (lw_at lw_m12 110 rfl) rfl
theorem q2868 : (Jvm.Cond.classLink "GangColumns$Foresight" (15 : Nat) "java/util/ArrayList") ∈ lw_all := lw_g (lw_at lw_m12 111 rfl) rfl
theorem q2869 : (Jvm.Cond.methodLink "GangColumns$Foresight" (17 : Nat) ({ cls := "java/util/ArrayList", name := "<init>", desc := "()V" } : Jvm.MethodName)) ∈ lw_all := lw_g (lw_at lw_m12 112 rfl) rfl
theorem q2870 : (Jvm.Cond.methodLink "GangColumns$Foresight" (26 : Nat) ({ cls := "GangColumns$Cluster", name := "copy", desc := "()LGangColumns$Cluster;" } : Jvm.MethodName)) ∈ lw_all := lw_g (lw_at lw_m12 113 rfl) rfl
theorem q2871 : (Jvm.Cond.instanceMethod ({ cls := "GangColumns$Cluster", name := "copy", desc := "()LGangColumns$Cluster;" } : Jvm.MethodName)) ∈ lw_all := lw_g (lw_at lw_m12 114 rfl) rfl
theorem q2872 : (Jvm.Cond.selects "GangColumns$Cluster" ({ cls := "GangColumns$Cluster", name := "copy", desc := "()LGangColumns$Cluster;" } : Jvm.MethodName) ({ cls := "GangColumns$Cluster", name := "copy", desc := "()LGangColumns$Cluster;" } : Jvm.MethodName)) ∈ lw_all := lw_g (lw_at lw_m12 115 rfl) rfl
theorem q2873 : (Jvm.Cond.code ({ cls := "GangColumns$Cluster", name := "copy", desc := "()LGangColumns$Cluster;" } : Jvm.MethodName) prog_8_method_2_code (5 : Nat) (Option.some (Jvm.ClassFile.FieldType.object "GangColumns$Cluster"))) ∈ lw_all := lw_g (lw_at lw_m12 116 rfl) rfl
theorem q2874 : (Jvm.Cond.classLink "GangColumns$Cluster" (12 : Nat) "GangColumns$Cluster") ∈ lw_all := lw_g (lw_at lw_m12 117 rfl) rfl
theorem q2875 : (Jvm.Cond.methodLink "GangColumns$Cluster" (108 : Nat) ({ cls := "GangColumns$Cluster", name := "<init>", desc := "()V" } : Jvm.MethodName)) ∈ lw_all := lw_g (lw_at lw_m12 118 rfl) rfl
theorem q2876 : (Jvm.Cond.methodLink "GangColumns$Cluster" (109 : Nat) ({ cls := "GangColumns$Column", name := "copy", desc := "()LGangColumns$Column;" } : Jvm.MethodName)) ∈ lw_all := lw_g (lw_at lw_m12 119 rfl) rfl
theorem q2877 : (Jvm.Cond.instanceMethod ({ cls := "GangColumns$Column", name := "copy", desc := "()LGangColumns$Column;" } : Jvm.MethodName)) ∈ lw_all := lw_g (lw_at lw_m12 120 rfl) rfl
theorem q2878 : (Jvm.Cond.selects "GangColumns$Column" ({ cls := "GangColumns$Column", name := "copy", desc := "()LGangColumns$Column;" } : Jvm.MethodName) ({ cls := "GangColumns$Column", name := "copy", desc := "()LGangColumns$Column;" } : Jvm.MethodName)) ∈ lw_all := lw_g (lw_at lw_m12 121 rfl) rfl
theorem q2879 : (Jvm.Cond.code ({ cls := "GangColumns$Column", name := "copy", desc := "()LGangColumns$Column;" } : Jvm.MethodName) prog_10_method_7_code (2 : Nat) (Option.some (Jvm.ClassFile.FieldType.object "GangColumns$Column"))) ∈ lw_all := lw_g (lw_at lw_m12 122 rfl) rfl
theorem q2880 : (Jvm.Cond.classLink "GangColumns$Column" (11 : Nat) "GangColumns$Column") ∈ lw_all := lw_g (lw_at lw_m12 123 rfl) rfl
theorem q2881 : (Jvm.Cond.methodLink "GangColumns$Column" (82 : Nat) ({ cls := "GangColumns$Column", name := "<init>", desc := "()V" } : Jvm.MethodName)) ∈ lw_all := lw_g (lw_at lw_m12 124 rfl) rfl
theorem q2882 : (Jvm.Cond.methodLink "GangColumns$Column" (83 : Nat) ({ cls := "java/util/ArrayList", name := "addAll", desc := "(Ljava/util/Collection;)Z" } : Jvm.MethodName)) ∈ lw_all := lw_g (lw_at lw_m12 125 rfl) rfl
theorem q2883 : (Jvm.Cond.instanceMethod ({ cls := "java/util/ArrayList", name := "addAll", desc := "(Ljava/util/Collection;)Z" } : Jvm.MethodName)) ∈ lw_all := lw_g (lw_at lw_m12 126 rfl) rfl
theorem q2884 : (Jvm.Cond.selects "java/util/ArrayList" ({ cls := "java/util/ArrayList", name := "addAll", desc := "(Ljava/util/Collection;)Z" } : Jvm.MethodName) ({ cls := "java/util/ArrayList", name := "addAll", desc := "(Ljava/util/Collection;)Z" } : Jvm.MethodName)) ∈ lw_all := lw_g (lw_at lw_m12 127 rfl) rfl
theorem q2885 : (Jvm.Cond.code ({ cls := "java/util/ArrayList", name := "addAll", desc := "(Ljava/util/Collection;)Z" } : Jvm.MethodName) prog_61_method_41_code (6 : Nat) (Option.some Jvm.ClassFile.FieldType.boolean)) ∈ lw_all := lw_g (lw_at lw_m12 128 rfl) rfl
theorem q2886 : (Jvm.Cond.interfaceEntry "java/util/ArrayList" (42 : Nat)) ∈ lw_tbl := lw_at lw_m12 129 rfl
theorem q2887 : (Jvm.Cond.methodLink "java/util/ArrayList" (42 : Nat) ({ cls := "java/util/Collection", name := "toArray", desc := "()[Ljava/lang/Object;" } : Jvm.MethodName)) ∈ lw_all := lw_g (lw_at lw_m12 130 rfl) rfl
theorem q2888 : (Jvm.Cond.interfaceMethod "java/util/Collection" "java/util/Collection" "toArray" "()[Ljava/lang/Object;") ∈ lw_tbl := lw_at lw_m12 131 rfl
theorem q2889 : (Jvm.Cond.declares ({ cls := "java/util/Collection", name := "toArray", desc := "()[Ljava/lang/Object;" } : Jvm.MethodName)) ∈ lw_tbl := lw_at lw_m12 132 rfl
theorem q2890 : (Jvm.Cond.selects "java/util/ArrayList" ({ cls := "java/util/Collection", name := "toArray", desc := "()[Ljava/lang/Object;" } : Jvm.MethodName) ({ cls := "java/util/ArrayList", name := "toArray", desc := "()[Ljava/lang/Object;" } : Jvm.MethodName)) ∈ lw_all := lw_g (lw_at lw_m12 133 rfl) rfl
theorem q2891 : (Jvm.Cond.unhidden "java/util/ArrayList" "toArray" "()[Ljava/lang/Object;") ∈ lw_tbl := lw_at lw_m12 134 rfl
theorem q2892 : (Jvm.Cond.instanceMethod ({ cls := "java/util/ArrayList", name := "toArray", desc := "()[Ljava/lang/Object;" } : Jvm.MethodName)) ∈ lw_all := lw_g (lw_at lw_m12 135 rfl) rfl
theorem q2893 : (Jvm.Cond.publicMethod ({ cls := "java/util/ArrayList", name := "toArray", desc := "()[Ljava/lang/Object;" } : Jvm.MethodName)) ∈ lw_tbl := lw_at lw_m12 136 rfl
theorem q2894 : (Jvm.Cond.code ({ cls := "java/util/ArrayList", name := "toArray", desc := "()[Ljava/lang/Object;" } : Jvm.MethodName) prog_61_method_16_code (1 : Nat) (Option.some (Jvm.ClassFile.FieldType.array (Jvm.ClassFile.FieldType.object "java/lang/Object")))) ∈ lw_all := lw_g (lw_at lw_m12 137 rfl) rfl
theorem q2895 : (Jvm.Cond.selects "java/util/PriorityQueue" ({ cls := "java/util/Collection", name := "toArray", desc := "()[Ljava/lang/Object;" } : Jvm.MethodName) ({ cls := "java/util/PriorityQueue", name := "toArray", desc := "()[Ljava/lang/Object;" } : Jvm.MethodName)) ∈ lw_all := lw_g (lw_at lw_m12 138 rfl) rfl
theorem q2896 : (Jvm.Cond.unhidden "java/util/PriorityQueue" "toArray" "()[Ljava/lang/Object;") ∈ lw_tbl := lw_at lw_m12 139 rfl
theorem q2897 : (Jvm.Cond.instanceMethod ({ cls := "java/util/PriorityQueue", name := "toArray", desc := "()[Ljava/lang/Object;" } : Jvm.MethodName)) ∈ lw_all := lw_g (lw_at lw_m12 140 rfl) rfl
theorem q2898 : (Jvm.Cond.publicMethod ({ cls := "java/util/PriorityQueue", name := "toArray", desc := "()[Ljava/lang/Object;" } : Jvm.MethodName)) ∈ lw_tbl := lw_at lw_m12 141 rfl
theorem q2899 : (Jvm.Cond.code ({ cls := "java/util/PriorityQueue", name := "toArray", desc := "()[Ljava/lang/Object;" } : Jvm.MethodName) prog_73_method_20_code (1 : Nat) (Option.some (Jvm.ClassFile.FieldType.array (Jvm.ClassFile.FieldType.object "java/lang/Object")))) ∈ lw_all := lw_g (lw_at lw_m12 142 rfl) rfl
theorem q2900 : (Jvm.Cond.selects "java/util/TreeMap$EntrySet" ({ cls := "java/util/Collection", name := "toArray", desc := "()[Ljava/lang/Object;" } : Jvm.MethodName) ({ cls := "java/util/AbstractCollection", name := "toArray", desc := "()[Ljava/lang/Object;" } : Jvm.MethodName)) ∈ lw_all := lw_g (lw_at lw_m12 143 rfl) rfl
theorem q2901 : (Jvm.Cond.unhidden "java/util/TreeMap$EntrySet" "toArray" "()[Ljava/lang/Object;") ∈ lw_tbl := lw_at lw_m12 144 rfl
theorem q2902 : (Jvm.Cond.instanceMethod ({ cls := "java/util/AbstractCollection", name := "toArray", desc := "()[Ljava/lang/Object;" } : Jvm.MethodName)) ∈ lw_all := lw_g (lw_at lw_m12 145 rfl) rfl
theorem q2903 : (Jvm.Cond.publicMethod ({ cls := "java/util/AbstractCollection", name := "toArray", desc := "()[Ljava/lang/Object;" } : Jvm.MethodName)) ∈ lw_tbl := lw_at lw_m12 146 rfl
theorem q2904 : (Jvm.Cond.code ({ cls := "java/util/AbstractCollection", name := "toArray", desc := "()[Ljava/lang/Object;" } : Jvm.MethodName) prog_55_method_6_code (4 : Nat) (Option.some (Jvm.ClassFile.FieldType.array (Jvm.ClassFile.FieldType.object "java/lang/Object")))) ∈ lw_all := lw_g (lw_at lw_m12 147 rfl) rfl
theorem q2905 : (Jvm.Cond.classLink "java/util/AbstractCollection" (2 : Nat) "java/lang/Object") ∈ lw_all := lw_g (lw_at lw_m12 148 rfl) rfl
theorem q2906 : (Jvm.Cond.methodLink "java/util/AbstractCollection" (13 : Nat) ({ cls := "java/util/AbstractCollection", name := "iterator", desc := "()Ljava/util/Iterator;" } : Jvm.MethodName)) ∈ lw_all := lw_g (lw_at lw_m12 149 rfl) rfl
theorem q2907 : (Jvm.Cond.declares ({ cls := "java/util/AbstractCollection", name := "iterator", desc := "()Ljava/util/Iterator;" } : Jvm.MethodName)) ∈ lw_tbl := lw_at lw_m12 150 rfl
theorem q2908 : (Jvm.Cond.sameMethod "java/util/AbstractCollection" "java/util/AbstractCollection" "iterator" "()Ljava/util/Iterator;") ∈ lw_all := lw_g (lw_at lw_m12 151 rfl) rfl
theorem q2909 : (Jvm.Cond.selects "java/util/ArrayList" ({ cls := "java/util/AbstractCollection", name := "iterator", desc := "()Ljava/util/Iterator;" } : Jvm.MethodName) ({ cls := "java/util/ArrayList", name := "iterator", desc := "()Ljava/util/Iterator;" } : Jvm.MethodName)) ∈ lw_all := lw_g (lw_at lw_m12 152 rfl) rfl
theorem q2910 : (Jvm.Cond.selects "java/util/PriorityQueue" ({ cls := "java/util/AbstractCollection", name := "iterator", desc := "()Ljava/util/Iterator;" } : Jvm.MethodName) ({ cls := "java/util/PriorityQueue", name := "iterator", desc := "()Ljava/util/Iterator;" } : Jvm.MethodName)) ∈ lw_all := lw_g (lw_at lw_m12 153 rfl) rfl
theorem q2911 : (Jvm.Cond.selects "java/util/TreeMap$EntrySet" ({ cls := "java/util/AbstractCollection", name := "iterator", desc := "()Ljava/util/Iterator;" } : Jvm.MethodName) ({ cls := "java/util/TreeMap$EntrySet", name := "iterator", desc := "()Ljava/util/Iterator;" } : Jvm.MethodName)) ∈ lw_all := lw_g (lw_at lw_m12 154 rfl) rfl
theorem q2912 : (Jvm.Cond.selects "java/util/TreeMap$KeySet" ({ cls := "java/util/AbstractCollection", name := "iterator", desc := "()Ljava/util/Iterator;" } : Jvm.MethodName) ({ cls := "java/util/TreeMap$KeySet", name := "iterator", desc := "()Ljava/util/Iterator;" } : Jvm.MethodName)) ∈ lw_all := lw_g (lw_at lw_m12 155 rfl) rfl
theorem q2913 : (Jvm.Cond.selects "java/util/TreeMap$Values" ({ cls := "java/util/AbstractCollection", name := "iterator", desc := "()Ljava/util/Iterator;" } : Jvm.MethodName) ({ cls := "java/util/TreeMap$Values", name := "iterator", desc := "()Ljava/util/Iterator;" } : Jvm.MethodName)) ∈ lw_all := lw_g (lw_at lw_m12 156 rfl) rfl
theorem q2914 : (Jvm.Cond.selects "java/util/TreeSet" ({ cls := "java/util/AbstractCollection", name := "iterator", desc := "()Ljava/util/Iterator;" } : Jvm.MethodName) ({ cls := "java/util/TreeSet", name := "iterator", desc := "()Ljava/util/Iterator;" } : Jvm.MethodName)) ∈ lw_all := lw_g (lw_at lw_m12 157 rfl) rfl
theorem q2915 : (Jvm.Cond.interfaceEntry "java/util/AbstractCollection" (17 : Nat)) ∈ lw_tbl := lw_at lw_m12 158 rfl
theorem q2916 : (Jvm.Cond.methodLink "java/util/AbstractCollection" (17 : Nat) ({ cls := "java/util/Iterator", name := "hasNext", desc := "()Z" } : Jvm.MethodName)) ∈ lw_all := lw_g (lw_at lw_m12 159 rfl) rfl
theorem q2917 : (Jvm.Cond.methodLink "java/util/AbstractCollection" (31 : Nat) ({ cls := "java/util/Arrays", name := "copyOf", desc := "([Ljava/lang/Object;I)[Ljava/lang/Object;" } : Jvm.MethodName)) ∈ lw_all := lw_g (lw_at lw_m12 160 rfl) rfl
theorem q2918 : (Jvm.Cond.interfaceEntry "java/util/AbstractCollection" (23 : Nat)) ∈ lw_tbl := lw_at lw_m12 161 rfl
theorem q2919 : (Jvm.Cond.methodLink "java/util/AbstractCollection" (23 : Nat) ({ cls := "java/util/Iterator", name := "next", desc := "()Ljava/lang/Object;" } : Jvm.MethodName)) ∈ lw_all := lw_g (lw_at lw_m12 162 rfl) rfl
theorem q2920 : (Jvm.Cond.methodLink "java/util/AbstractCollection" (37 : Nat) ({ cls := "java/util/AbstractCollection", name := "finishToArray", desc := "([Ljava/lang/Object;Ljava/util/Iterator;)[Ljava/lang/Object;" } : Jvm.MethodName)) ∈ lw_all := lw_g (lw_at lw_m12 163 rfl) rfl
theorem q2921 : (Jvm.Cond.static ({ cls := "java/util/AbstractCollection", name := "finishToArray", desc := "([Ljava/lang/Object;Ljava/util/Iterator;)[Ljava/lang/Object;" } : Jvm.MethodName)) ∈ lw_all := lw_g (lw_at lw_m12 164 rfl) rfl
theorem q2922 : (Jvm.Cond.code ({ cls := "java/util/AbstractCollection", name := "finishToArray", desc := "([Ljava/lang/Object;Ljava/util/Iterator;)[Ljava/lang/Object;" } : Jvm.MethodName) prog_55_method_8_code (4 : Nat) (Option.some (Jvm.ClassFile.FieldType.array (Jvm.ClassFile.FieldType.object "java/lang/Object")))) ∈ lw_all := lw_g (lw_at lw_m12 165 rfl) rfl
theorem q2923 : (Jvm.Cond.methodLink "java/util/AbstractCollection" (64 : Nat) ({ cls := "jdk/internal/util/ArraysSupport", name := "newLength", desc := "(III)I" } : Jvm.MethodName)) ∈ lw_all := lw_g (lw_at lw_m12 166 rfl) rfl
theorem q2924 : (Jvm.Cond.selects "java/util/TreeMap$KeySet" ({ cls := "java/util/Collection", name := "toArray", desc := "()[Ljava/lang/Object;" } : Jvm.MethodName) ({ cls := "java/util/AbstractCollection", name := "toArray", desc := "()[Ljava/lang/Object;" } : Jvm.MethodName)) ∈ lw_all := lw_g (lw_at lw_m12 167 rfl) rfl
theorem q2925 : (Jvm.Cond.unhidden "java/util/TreeMap$KeySet" "toArray" "()[Ljava/lang/Object;") ∈ lw_tbl := lw_at lw_m12 168 rfl
theorem q2926 : (Jvm.Cond.selects "java/util/TreeMap$Values" ({ cls := "java/util/Collection", name := "toArray", desc := "()[Ljava/lang/Object;" } : Jvm.MethodName) ({ cls := "java/util/AbstractCollection", name := "toArray", desc := "()[Ljava/lang/Object;" } : Jvm.MethodName)) ∈ lw_all := lw_g (lw_at lw_m12 169 rfl) rfl
theorem q2927 : (Jvm.Cond.unhidden "java/util/TreeMap$Values" "toArray" "()[Ljava/lang/Object;") ∈ lw_tbl := lw_at lw_m12 170 rfl
theorem q2928 : (Jvm.Cond.selects "java/util/TreeSet" ({ cls := "java/util/Collection", name := "toArray", desc := "()[Ljava/lang/Object;" } : Jvm.MethodName) ({ cls := "java/util/AbstractCollection", name := "toArray", desc := "()[Ljava/lang/Object;" } : Jvm.MethodName)) ∈ lw_all := lw_g (lw_at lw_m12 171 rfl) rfl
theorem q2929 : (Jvm.Cond.unhidden "java/util/TreeSet" "toArray" "()[Ljava/lang/Object;") ∈ lw_tbl := lw_at lw_m12 172 rfl
theorem q2930 : (Jvm.Cond.methodLink "GangColumns$Cluster" (113 : Nat) ({ cls := "java/lang/System", name := "arraycopy", desc := "(Ljava/lang/Object;ILjava/lang/Object;II)V" } : Jvm.MethodName)) ∈ lw_all := lw_g (lw_at lw_m12 173 rfl) rfl
theorem q2931 : (Jvm.Cond.methodLink "GangColumns$Cluster" (119 : Nat) ({ cls := "java/util/ArrayList", name := "addAll", desc := "(Ljava/util/Collection;)Z" } : Jvm.MethodName)) ∈ lw_all := lw_g (lw_at lw_m12 174 rfl) rfl
theorem q2932 : (Jvm.Cond.methodLink "GangColumns$Cluster" (137 : Nat) ({ cls := "GangColumns$Job", name := "copy", desc := "()LGangColumns$Job;" } : Jvm.MethodName)) ∈ lw_all := lw_g (lw_at lw_m12 175 rfl) rfl
theorem q2933 : (Jvm.Cond.instanceMethod ({ cls := "GangColumns$Job", name := "copy", desc := "()LGangColumns$Job;" } : Jvm.MethodName)) ∈ lw_all := lw_g (lw_at lw_m12 176 rfl) rfl
theorem q2934 : (Jvm.Cond.selects "GangColumns$Job" ({ cls := "GangColumns$Job", name := "copy", desc := "()LGangColumns$Job;" } : Jvm.MethodName) ({ cls := "GangColumns$Job", name := "copy", desc := "()LGangColumns$Job;" } : Jvm.MethodName)) ∈ lw_all := lw_g (lw_at lw_m12 177 rfl) rfl
theorem q2935 : (Jvm.Cond.code ({ cls := "GangColumns$Job", name := "copy", desc := "()LGangColumns$Job;" } : Jvm.MethodName) prog_18_method_6_code (3 : Nat) (Option.some (Jvm.ClassFile.FieldType.object "GangColumns$Job"))) ∈ lw_all := lw_g (lw_at lw_m12 178 rfl) rfl
theorem q2936 : (Jvm.Cond.methodLink "GangColumns$Job" (120 : Nat) ({ cls := "GangColumns$Arm", name := "copy", desc := "()LGangColumns$Arm;" } : Jvm.MethodName)) ∈ lw_all := lw_g (lw_at lw_m12 179 rfl) rfl
theorem q2937 : (Jvm.Cond.instanceMethod ({ cls := "GangColumns$Arm", name := "copy", desc := "()LGangColumns$Arm;" } : Jvm.MethodName)) ∈ lw_all := lw_g (lw_at lw_m12 180 rfl) rfl
theorem q2938 : (Jvm.Cond.selects "GangColumns$Arm" ({ cls := "GangColumns$Arm", name := "copy", desc := "()LGangColumns$Arm;" } : Jvm.MethodName) ({ cls := "GangColumns$Arm", name := "copy", desc := "()LGangColumns$Arm;" } : Jvm.MethodName)) ∈ lw_all := lw_g (lw_at lw_m12 181 rfl) rfl
theorem q2939 : (Jvm.Cond.code ({ cls := "GangColumns$Arm", name := "copy", desc := "()LGangColumns$Arm;" } : Jvm.MethodName) prog_4_method_4_code (2 : Nat) (Option.some (Jvm.ClassFile.FieldType.object "GangColumns$Arm"))) ∈ lw_all := lw_g (lw_at lw_m12 182 rfl) rfl
theorem q2940 : (Jvm.Cond.classLink "GangColumns$Arm" (10 : Nat) "GangColumns$Arm") ∈ lw_all := lw_g (lw_at lw_m12 183 rfl) rfl
theorem q2941 : (Jvm.Cond.methodLink "GangColumns$Arm" (33 : Nat) ({ cls := "GangColumns$Arm", name := "<init>", desc := "(III)V" } : Jvm.MethodName)) ∈ lw_all := lw_g (lw_at lw_m12 184 rfl) rfl
theorem q2942 : (Jvm.Cond.classLink "GangColumns$Job" (10 : Nat) "GangColumns$Job") ∈ lw_all := lw_g (lw_at lw_m12 185 rfl) rfl
theorem q2943 : (Jvm.Cond.methodLink "GangColumns$Job" (71 : Nat) ({ cls := "GangColumns$Job", name := "<init>", desc := "(IIIIII[LGangColumns$Arm;)V" } : Jvm.MethodName)) ∈ lw_all := lw_g (lw_at lw_m12 186 rfl) rfl
theorem q2944 : (Jvm.Cond.methodLink "GangColumns$Cluster" (193 : Nat) ({ cls := "GangColumns$Promises", name := "like", desc := "(LGangColumns$Promises;)V" } : Jvm.MethodName)) ∈ lw_all := lw_g (lw_at lw_m12 187 rfl) rfl
theorem q2945 : (Jvm.Cond.instanceMethod ({ cls := "GangColumns$Promises", name := "like", desc := "(LGangColumns$Promises;)V" } : Jvm.MethodName)) ∈ lw_all := lw_g (lw_at lw_m12 188 rfl) rfl
theorem q2946 : (Jvm.Cond.selects "GangColumns$Promises" ({ cls := "GangColumns$Promises", name := "like", desc := "(LGangColumns$Promises;)V" } : Jvm.MethodName) ({ cls := "GangColumns$Promises", name := "like", desc := "(LGangColumns$Promises;)V" } : Jvm.MethodName)) ∈ lw_all := lw_g (lw_at lw_m12 189 rfl) rfl
theorem q2947 : (Jvm.Cond.code ({ cls := "GangColumns$Promises", name := "like", desc := "(LGangColumns$Promises;)V" } : Jvm.MethodName) prog_24_method_6_code (2 : Nat) (Option.none : Option Jvm.ClassFile.FieldType)) ∈ lw_all := lw_g (lw_at lw_m12 190 rfl) rfl
theorem q2948 : (Jvm.Cond.methodLink "GangColumns$Promises" (22 : Nat) ({ cls := "java/lang/System", name := "arraycopy", desc := "(Ljava/lang/Object;ILjava/lang/Object;II)V" } : Jvm.MethodName)) ∈ lw_all := lw_g (lw_at lw_m12 191 rfl) rfl
theorem q2949 : (Jvm.Cond.methodLink "GangColumns$Foresight" (35 : Nat) ({ cls := "GangColumns$Cluster", name := "thinks", desc := "()V" } : Jvm.MethodName)) ∈ lw_all := lw_g (lw_at lw_m12 192 rfl) rfl
theorem q2950 : (Jvm.Cond.instanceMethod ({ cls := "GangColumns$Cluster", name := "thinks", desc := "()V" } : Jvm.MethodName)) ∈ lw_all := lw_g (lw_at lw_m12 193 rfl) rfl
theorem q2951 : (Jvm.Cond.selects "GangColumns$Cluster" ({ cls := "GangColumns$Cluster", name := "thinks", desc := "()V" } : Jvm.MethodName) ({ cls := "GangColumns$Cluster", name := "thinks", desc := "()V" } : Jvm.MethodName)) ∈ lw_all := lw_g (lw_at lw_m12 194 rfl) rfl
theorem q2952 : (Jvm.Cond.code ({ cls := "GangColumns$Cluster", name := "thinks", desc := "()V" } : Jvm.MethodName) prog_8_method_3_code (4 : Nat) (Option.none : Option Jvm.ClassFile.FieldType)) ∈ lw_all := lw_g (lw_at lw_m12 195 rfl) rfl
theorem q2953 : (Jvm.Cond.methodLink "GangColumns$Foresight" (41 : Nat) ({ cls := "GangColumns$Job", name := "copy", desc := "()LGangColumns$Job;" } : Jvm.MethodName)) ∈ lw_all := lw_g (lw_at lw_m12 196 rfl) rfl
theorem q2954 : (Jvm.Cond.methodLink "GangColumns$Foresight" (46 : Nat) ({ cls := "java/util/ArrayList", name := "add", desc := "(Ljava/lang/Object;)Z" } : Jvm.MethodName)) ∈ lw_all := lw_g (lw_at lw_m12 197 rfl) rfl
theorem q2955 : (Jvm.Cond.fieldLink "GangColumns$Foresight" (32 : Nat) "GangColumns$Foresight" "then" "LGangColumns$Cluster;") ∈ lw_all := lw_g (lw_at lw_m12 198 rfl) rfl
theorem q2956 : (Jvm.Cond.fieldLinkNest "GangColumns" (395 : Nat) "GangColumns$Foresight" "then" "LGangColumns$Cluster;" "GangColumns") ∈ lw_tbl := lw_at lw_m12 199 rfl
theorem q2957 : (Jvm.Cond.fieldLink "GangColumns$Foresight" (18 : Nat) "GangColumns$Foresight" "starts" "Ljava/util/ArrayList;") ∈ lw_all := lw_g (lw_at lw_m12 200 rfl) rfl
theorem q2958 : (Jvm.Cond.fieldLinkNest "GangColumns" (373 : Nat) "GangColumns$Foresight" "starts" "Ljava/util/ArrayList;" "GangColumns") ∈ lw_tbl := lw_at lw_m12 201 rfl
theorem q2959 : (Jvm.Cond.fieldLink "GangColumns$Foresight" (3 : Nat) "GangColumns$Foresight" "this$0" "LGangColumns;") ∈ lw_all := lw_g (lw_at lw_m12 202 rfl) rfl
theorem q2960 : (Jvm.Cond.laysFinal "GangColumns$Foresight" "GangColumns$Foresight" "then" "LGangColumns$Cluster;") ∈ lw_all := lw_g (lw_at lw_m12 203 rfl) rfl
theorem q2961 : (Jvm.Cond.soleField "GangColumns$Foresight" "then") ∈ lw_all := lw_g (lw_at lw_m12 204 rfl) rfl
theorem q2962 : (Jvm.Cond.laysFinal "GangColumns$Foresight" "GangColumns$Foresight" "starts" "Ljava/util/ArrayList;") ∈ lw_all := lw_g (lw_at lw_m12 205 rfl) rfl
theorem q2963 : (Jvm.Cond.soleField "GangColumns$Foresight" "starts") ∈ lw_all := lw_g (lw_at lw_m12 206 rfl) rfl
theorem q2964 : (Jvm.Cond.laysFinal "GangColumns$Foresight" "GangColumns$Foresight" "this$0" "LGangColumns;") ∈ lw_all := lw_g (lw_at lw_m12 207 rfl) rfl
theorem q2965 : (Jvm.Cond.soleField "GangColumns$Foresight" "this$0") ∈ lw_all := lw_g (lw_at lw_m12 208 rfl) rfl
theorem q2966 : (Jvm.Cond.superclass "GangColumns$Foresight" "java/lang/Object") ∈ lw_all := lw_g (lw_at lw_m12 209 rfl) rfl
theorem q2967 : (Jvm.Cond.methodLink "GangColumns" (367 : Nat) ({ cls := "GangColumns$Foresight", name := "goesOn", desc := "(I)V" } : Jvm.MethodName)) ∈ lw_all := lw_g (lw_at lw_m12 210 rfl) rfl
theorem q2968 : (Jvm.Cond.instanceMethod ({ cls := "GangColumns$Foresight", name := "goesOn", desc := "(I)V" } : Jvm.MethodName)) ∈ lw_all := lw_g (lw_at lw_m12 211 rfl) rfl
theorem q2969 : (Jvm.Cond.selects "GangColumns$Foresight" ({ cls := "GangColumns$Foresight", name := "goesOn", desc := "(I)V" } : Jvm.MethodName) ({ cls := "GangColumns$Foresight", name := "goesOn", desc := "(I)V" } : Jvm.MethodName)) ∈ lw_all := lw_g (lw_at lw_m12 212 rfl) rfl
theorem q2970 : (Jvm.Cond.code ({ cls := "GangColumns$Foresight", name := "goesOn", desc := "(I)V" } : Jvm.MethodName) prog_13_method_2_code (5 : Nat) (Option.none : Option Jvm.ClassFile.FieldType)) ∈ lw_all := lw_g (lw_at lw_m12 213 rfl) rfl
theorem q2971 : (Jvm.Cond.methodLink "GangColumns$Foresight" (50 : Nat) ({ cls := "GangColumns$Foresight", name := "waitingMany", desc := "()I" } : Jvm.MethodName)) ∈ lw_all := lw_g (lw_at lw_m12 214 rfl) rfl
theorem q2972 : (Jvm.Cond.privateMethod ({ cls := "GangColumns$Foresight", name := "waitingMany", desc := "()I" } : Jvm.MethodName)) ∈ lw_tbl := lw_at lw_m12 215 rfl
theorem q2973 : (Jvm.Cond.instanceMethod ({ cls := "GangColumns$Foresight", name := "waitingMany", desc := "()I" } : Jvm.MethodName)) ∈ lw_all := lw_g (lw_at lw_m12 216 rfl) rfl
theorem q2974 : (Jvm.Cond.code ({ cls := "GangColumns$Foresight", name := "waitingMany", desc := "()I" } : Jvm.MethodName) prog_13_method_4_code (1 : Nat) (Option.some Jvm.ClassFile.FieldType.int)) ∈ lw_all := lw_g (lw_at lw_m12 217 rfl) rfl
theorem q2975 : (Jvm.Cond.methodLink "GangColumns$Foresight" (73 : Nat) ({ cls := "GangColumns$Cluster", name := "jobsThat", desc := "(I)I" } : Jvm.MethodName)) ∈ lw_all := lw_g (lw_at lw_m12 218 rfl) rfl
theorem q2976 : (Jvm.Cond.instanceMethod ({ cls := "GangColumns$Cluster", name := "jobsThat", desc := "(I)I" } : Jvm.MethodName)) ∈ lw_all := lw_g (lw_at lw_m12 219 rfl) rfl
theorem q2977 : (Jvm.Cond.selects "GangColumns$Cluster" ({ cls := "GangColumns$Cluster", name := "jobsThat", desc := "(I)I" } : Jvm.MethodName) ({ cls := "GangColumns$Cluster", name := "jobsThat", desc := "(I)I" } : Jvm.MethodName)) ∈ lw_all := lw_g (lw_at lw_m12 220 rfl) rfl
theorem q2978 : (Jvm.Cond.code ({ cls := "GangColumns$Cluster", name := "jobsThat", desc := "(I)I" } : Jvm.MethodName) prog_8_method_39_code (5 : Nat) (Option.some Jvm.ClassFile.FieldType.int)) ∈ lw_all := lw_g (lw_at lw_m12 221 rfl) rfl
theorem q2979 : (Jvm.Cond.methodLink "GangColumns$Foresight" (54 : Nat) ({ cls := "java/util/ArrayList", name := "size", desc := "()I" } : Jvm.MethodName)) ∈ lw_all := lw_g (lw_at lw_m12 222 rfl) rfl
theorem q2980 : (Jvm.Cond.privateMethod ({ cls := "GangColumns$Foresight", name := "adds", desc := "(LGangColumns$Job;)V" } : Jvm.MethodName)) ∈ lw_tbl := lw_at lw_m12 223 rfl
theorem q2981 : (Jvm.Cond.instanceMethod ({ cls := "GangColumns$Foresight", name := "adds", desc := "(LGangColumns$Job;)V" } : Jvm.MethodName)) ∈ lw_all := lw_g (lw_at lw_m12 224 rfl) rfl
theorem q2982 : (Jvm.Cond.code ({ cls := "GangColumns$Foresight", name := "adds", desc := "(LGangColumns$Job;)V" } : Jvm.MethodName) prog_13_method_3_code (2 : Nat) (Option.none : Option Jvm.ClassFile.FieldType)) ∈ lw_all := lw_g (lw_at lw_m12 225 rfl) rfl
theorem q2983 : (Jvm.Cond.methodLink "GangColumns$Foresight" (61 : Nat) ({ cls := "GangColumns$Cluster", name := "tick", desc := "(LGangColumns$Starts;)V" } : Jvm.MethodName)) ∈ lw_all := lw_g (lw_at lw_m12 226 rfl) rfl
theorem q2984 : (Jvm.Cond.methodLink "GangColumns$Foresight" (65 : Nat) ({ cls := "java/util/ArrayList", name := "get", desc := "(I)Ljava/lang/Object;" } : Jvm.MethodName)) ∈ lw_all := lw_g (lw_at lw_m12 227 rfl) rfl
theorem q2985 : (Jvm.Cond.classLink "GangColumns$Foresight" (42 : Nat) "GangColumns$Job") ∈ lw_all := lw_g (lw_at lw_m12 228 rfl) rfl
theorem q2986 : (Jvm.Cond.methodLink "GangColumns" (370 : Nat) ({ cls := "GangColumns$Foresight", name := "startOf", desc := "(I)I" } : Jvm.MethodName)) ∈ lw_all := lw_g (lw_at lw_m12 229 rfl) rfl
theorem q2987 : (Jvm.Cond.instanceMethod ({ cls := "GangColumns$Foresight", name := "startOf", desc := "(I)I" } : Jvm.MethodName)) ∈ lw_all := lw_g (lw_at lw_m12 230 rfl) rfl
theorem q2988 : (Jvm.Cond.selects "GangColumns$Foresight" ({ cls := "GangColumns$Foresight", name := "startOf", desc := "(I)I" } : Jvm.MethodName) ({ cls := "GangColumns$Foresight", name := "startOf", desc := "(I)I" } : Jvm.MethodName)) ∈ lw_all := lw_g (lw_at lw_m12 231 rfl) rfl
theorem q2989 : (Jvm.Cond.code ({ cls := "GangColumns$Foresight", name := "startOf", desc := "(I)I" } : Jvm.MethodName) prog_13_method_5_code (2 : Nat) (Option.some Jvm.ClassFile.FieldType.int)) ∈ lw_all := lw_g (lw_at lw_m12 232 rfl) rfl
theorem q2990 : (Jvm.Cond.methodLink "GangColumnsLaw" (108 : Nat) ({ cls := "GangColumns", name := "plan", desc := "(I)I" } : Jvm.MethodName)) ∈ lw_all := lw_g (lw_at lw_m12 233 rfl) rfl
theorem q2991 : (Jvm.Cond.instanceMethod ({ cls := "GangColumns", name := "plan", desc := "(I)I" } : Jvm.MethodName)) ∈ lw_all := lw_g (lw_at lw_m12 234 rfl) rfl
theorem q2992 : (Jvm.Cond.selects "GangColumns" ({ cls := "GangColumns", name := "plan", desc := "(I)I" } : Jvm.MethodName) ({ cls := "GangColumns", name := "plan", desc := "(I)I" } : Jvm.MethodName)) ∈ lw_all := lw_g (lw_at lw_m12 235 rfl) rfl
theorem q2993 : (Jvm.Cond.code ({ cls := "GangColumns", name := "plan", desc := "(I)I" } : Jvm.MethodName) prog_1_method_37_code (3 : Nat) (Option.some Jvm.ClassFile.FieldType.int)) ∈ lw_all := lw_g (lw_at lw_m12 236 rfl) rfl
theorem q2994 : (Jvm.Cond.methodLink "GangColumnsLaw" (136 : Nat) ({ cls := "GangColumns", name := "costs", desc := "(III)I" } : Jvm.MethodName)) ∈ lw_all := lw_g (lw_at lw_m12 237 rfl) rfl
theorem q2995 : (Jvm.Cond.instanceMethod ({ cls := "GangColumns", name := "costs", desc := "(III)I" } : Jvm.MethodName)) ∈ lw_all := lw_g (lw_at lw_m12 238 rfl) rfl
theorem q2996 : (Jvm.Cond.selects "GangColumns" ({ cls := "GangColumns", name := "costs", desc := "(III)I" } : Jvm.MethodName) ({ cls := "GangColumns", name := "costs", desc := "(III)I" } : Jvm.MethodName)) ∈ lw_all := lw_g (lw_at lw_m12 239 rfl) rfl
theorem q2997 : (Jvm.Cond.code ({ cls := "GangColumns", name := "costs", desc := "(III)I" } : Jvm.MethodName) prog_1_method_38_code (12 : Nat) (Option.some Jvm.ClassFile.FieldType.int)) ∈ lw_all := lw_g (lw_at lw_m13 0 rfl) rfl
theorem q2998 : (Jvm.Cond.methodLink "GangColumns" (376 : Nat) ({ cls := "java/util/ArrayList", name := "iterator", desc := "()Ljava/util/Iterator;" } : Jvm.MethodName)) ∈ lw_all := lw_g (lw_at lw_m13 1 rfl) rfl
theorem q2999 : (Jvm.Cond.methodLink "GangColumns" (377 : Nat) ({ cls := "GangColumns", name := "later", desc := "(II)I" } : Jvm.MethodName)) ∈ lw_all := lw_g (lw_at lw_m13 2 rfl) rfl
theorem q3000 : (Jvm.Cond.static ({ cls := "GangColumns", name := "later", desc := "(II)I" } : Jvm.MethodName)) ∈ lw_all := lw_g (lw_at lw_m13 3 rfl) rfl
theorem q3001 : (Jvm.Cond.code ({ cls := "GangColumns", name := "later", desc := "(II)I" } : Jvm.MethodName) prog_1_method_39_code (2 : Nat) (Option.some Jvm.ClassFile.FieldType.int)) ∈ lw_all := lw_g (lw_at lw_m13 4 rfl) rfl
theorem q3002 : (Jvm.Cond.methodLink "GangColumns" (381 : Nat) ({ cls := "java/lang/Math", name := "max", desc := "(II)I" } : Jvm.MethodName)) ∈ lw_all := lw_g (lw_at lw_m13 5 rfl) rfl
theorem q3003 : (Jvm.Cond.methodLink "GangColumnsLaw" (140 : Nat) ({ cls := "GangColumns", name := "earliest", desc := "(I)I" } : Jvm.MethodName)) ∈ lw_all := lw_g (lw_at lw_m13 6 rfl) rfl
theorem q3004 : (Jvm.Cond.instanceMethod ({ cls := "GangColumns", name := "earliest", desc := "(I)I" } : Jvm.MethodName)) ∈ lw_all := lw_g (lw_at lw_m13 7 rfl) rfl
theorem q3005 : (Jvm.Cond.selects "GangColumns" ({ cls := "GangColumns", name := "earliest", desc := "(I)I" } : Jvm.MethodName) ({ cls := "GangColumns", name := "earliest", desc := "(I)I" } : Jvm.MethodName)) ∈ lw_all := lw_g (lw_at lw_m13 8 rfl) rfl
theorem q3006 : (Jvm.Cond.code ({ cls := "GangColumns", name := "earliest", desc := "(I)I" } : Jvm.MethodName) prog_1_method_40_code (4 : Nat) (Option.some Jvm.ClassFile.FieldType.int)) ∈ lw_all := lw_g (lw_at lw_m13 9 rfl) rfl
theorem q3007 : (Jvm.Cond.methodLink "GangColumns" (386 : Nat) ({ cls := "GangColumns$Job", name := "<init>", desc := "(I[LGangColumns$Arm;)V" } : Jvm.MethodName)) ∈ lw_all := lw_g (lw_at lw_m13 10 rfl) rfl
theorem q3008 : (Jvm.Cond.instanceMethod ({ cls := "GangColumns$Job", name := "<init>", desc := "(I[LGangColumns$Arm;)V" } : Jvm.MethodName)) ∈ lw_all := lw_g (lw_at lw_m13 11 rfl) rfl
theorem q3009 : (Jvm.Cond.code ({ cls := "GangColumns$Job", name := "<init>", desc := "(I[LGangColumns$Arm;)V" } : Jvm.MethodName) prog_18_method_2_code (3 : Nat) (Option.none : Option Jvm.ClassFile.FieldType)) ∈ lw_all := lw_g (lw_at lw_m13 12 rfl) rfl
theorem q3010 : (Jvm.Cond.methodLink "GangColumns" (389 : Nat) ({ cls := "GangColumns$Cluster", name := "firstTick", desc := "(LGangColumns$Job;II)I" } : Jvm.MethodName)) ∈ lw_all := lw_g (lw_at lw_m13 13 rfl) rfl
theorem q3011 : (Jvm.Cond.methodLink "GangColumnsLaw" (112 : Nat) ({ cls := "GangColumns", name := "byRule", desc := "(III)I" } : Jvm.MethodName)) ∈ lw_all := lw_g (lw_at lw_m13 14 rfl) rfl
theorem q3012 : (Jvm.Cond.instanceMethod ({ cls := "GangColumns", name := "byRule", desc := "(III)I" } : Jvm.MethodName)) ∈ lw_all := lw_g (lw_at lw_m13 15 rfl) rfl
theorem q3013 : (Jvm.Cond.selects "GangColumns" ({ cls := "GangColumns", name := "byRule", desc := "(III)I" } : Jvm.MethodName) ({ cls := "GangColumns", name := "byRule", desc := "(III)I" } : Jvm.MethodName)) ∈ lw_all := lw_g (lw_at lw_m13 16 rfl) rfl
theorem q3014 : (Jvm.Cond.code ({ cls := "GangColumns", name := "byRule", desc := "(III)I" } : Jvm.MethodName) prog_1_method_41_code (9 : Nat) (Option.some Jvm.ClassFile.FieldType.int)) ∈ lw_all := lw_g (lw_at lw_m13 17 rfl) rfl
theorem q3015 : (Jvm.Cond.constantLong "GangColumns" (393 : Nat) (2 : Int64)) ∈ lw_all := lw_g (lw_at lw_m13 18 rfl) rfl
theorem q3016 : (Jvm.Cond.methodLink "GangColumnsLaw" (116 : Nat) ({ cls := "GangColumns", name := "shrunk", desc := "(I)I" } : Jvm.MethodName)) ∈ lw_all := lw_g (lw_at lw_m13 19 rfl) rfl
theorem q3017 : (Jvm.Cond.instanceMethod ({ cls := "GangColumns", name := "shrunk", desc := "(I)I" } : Jvm.MethodName)) ∈ lw_all := lw_g (lw_at lw_m13 20 rfl) rfl
theorem q3018 : (Jvm.Cond.selects "GangColumns" ({ cls := "GangColumns", name := "shrunk", desc := "(I)I" } : Jvm.MethodName) ({ cls := "GangColumns", name := "shrunk", desc := "(I)I" } : Jvm.MethodName)) ∈ lw_all := lw_g (lw_at lw_m13 21 rfl) rfl
theorem q3019 : (Jvm.Cond.code ({ cls := "GangColumns", name := "shrunk", desc := "(I)I" } : Jvm.MethodName) prog_1_method_43_code (6 : Nat) (Option.some Jvm.ClassFile.FieldType.int)) ∈ lw_all := lw_g (lw_at lw_m13 22 rfl) rfl
theorem q3020 : (Jvm.Cond.classLink "GangColumns" (401 : Nat) "GangColumns$Orders") ∈ lw_all := lw_g (lw_at lw_m13 23 rfl) rfl
theorem q3021 : (Jvm.Cond.instantiable "GangColumns$Orders" (4 : Nat)) ∈ lw_all := lw_g (lw_at lw_m13 24 rfl) rfl
theorem q3022 : (Jvm.Cond.methodLink "GangColumns" (403 : Nat) ({ cls := "GangColumns$Orders", name := "<init>", desc := "(LGangColumns;LGangColumns$Job;I)V" } : Jvm.MethodName)) ∈ lw_all := lw_g (lw_at lw_m13 25 rfl) rfl
theorem q3023 : (Jvm.Cond.instanceMethod ({ cls := "GangColumns$Orders", name := "<init>", desc := "(LGangColumns;LGangColumns$Job;I)V" } : Jvm.MethodName)) ∈ lw_all := lw_g (lw_at lw_m13 26 rfl) rfl
theorem q3024 : (Jvm.Cond.code ({ cls := "GangColumns$Orders", name := "<init>", desc := "(LGangColumns;LGangColumns$Job;I)V" } : Jvm.MethodName) prog_22_method_1_code (4 : Nat) (Option.none : Option Jvm.ClassFile.FieldType)) ∈ lw_all := lw_g (lw_at lw_m13 27 rfl) rfl
theorem q3025 : (Jvm.Cond.methodLink "GangColumns$Orders" (7 : Nat) ({ cls := "java/lang/Object", name := "<init>", desc := "()V" } : Jvm.MethodName)) ∈ lw_all := lw_g (lw_at lw_m13 28 rfl) rfl
theorem q3026 : (Jvm.Cond.fieldLink "GangColumns$Orders" (13 : Nat) "GangColumns$Orders" "job" "LGangColumns$Job;") ∈ lw_all := lw_g (lw_at lw_m13 29 rfl) rfl
theorem q3027 : (Jvm.Cond.fieldLink "GangColumns$Orders" (17 : Nat) "GangColumns$Orders" "tick" "I") ∈ lw_all := lw_g (lw_at lw_m13 30 rfl) rfl
theorem q3028 : (Jvm.Cond.fieldLink "GangColumns$Orders" (33 : Nat) "GangColumns$Orders" "many" "I") ∈ lw_all := lw_g (lw_at lw_m13 31 rfl) rfl
theorem q3029 : (Jvm.Cond.fieldLinkNest "GangColumns" (461 : Nat) "GangColumns$Orders" "many" "I" "GangColumns") ∈ lw_tbl := lw_at lw_m13 32 rfl
theorem q3030 : (Jvm.Cond.fieldLink "GangColumns$Orders" (1 : Nat) "GangColumns$Orders" "this$0" "LGangColumns;") ∈ lw_all := lw_g (lw_at lw_m13 33 rfl) rfl
theorem q3031 : (Jvm.Cond.laysFinal "GangColumns$Orders" "GangColumns$Orders" "job" "LGangColumns$Job;") ∈ lw_all := lw_g (lw_at lw_m13 34 rfl) rfl
theorem q3032 : (Jvm.Cond.soleField "GangColumns$Orders" "job") ∈ lw_all := lw_g (lw_at lw_m13 35 rfl) rfl
theorem q3033 : (Jvm.Cond.laysFinal "GangColumns$Orders" "GangColumns$Orders" "tick" "I") ∈ lw_all := lw_g (lw_at lw_m13 36 rfl) rfl
theorem q3034 : (Jvm.Cond.soleField "GangColumns$Orders" "tick") ∈ lw_all := lw_g (lw_at lw_m13 37 rfl) rfl
theorem q3035 : (Jvm.Cond.lays "GangColumns$Orders" "GangColumns$Orders" "many" "I") ∈ lw_all := lw_g (lw_at lw_m13 38 rfl) rfl
theorem q3036 : (Jvm.Cond.soleField "GangColumns$Orders" "many") ∈ lw_all := lw_g (lw_at lw_m13 39 rfl) rfl
theorem q3037 : (Jvm.Cond.laysFinal "GangColumns$Orders" "GangColumns$Orders" "this$0" "LGangColumns;") ∈ lw_all := lw_g (lw_at lw_m13 40 rfl) rfl
theorem q3038 : (Jvm.Cond.soleField "GangColumns$Orders" "this$0") ∈ lw_all := lw_g (lw_at lw_m13 41 rfl) rfl
theorem q3039 : (Jvm.Cond.superclass "GangColumns$Orders" "java/lang/Object") ∈ lw_all := lw_g (lw_at lw_m13 42 rfl) rfl
theorem q3040 : (Jvm.Cond.methodLink "GangColumns" (406 : Nat) ({ cls := "GangColumns", name := "lessOf", desc := "(LGangColumns$Job;I)LGangColumns$Job;" } : Jvm.MethodName)) ∈ lw_all := lw_g (lw_at lw_m13 43 rfl) rfl
theorem q3041 : (Jvm.Cond.static ({ cls := "GangColumns", name := "lessOf", desc := "(LGangColumns$Job;I)LGangColumns$Job;" } : Jvm.MethodName)) ∈ lw_all := lw_g (lw_at lw_m13 44 rfl) rfl
theorem q3042 : (Jvm.Cond.code ({ cls := "GangColumns", name := "lessOf", desc := "(LGangColumns$Job;I)LGangColumns$Job;" } : Jvm.MethodName) prog_1_method_42_code (4 : Nat) (Option.some (Jvm.ClassFile.FieldType.object "GangColumns$Job"))) ∈ lw_all := lw_g (lw_at lw_m13 45 rfl) rfl
theorem q3043 : (Jvm.Cond.classLink "GangColumns" (216 : Nat) "GangColumns$Arm") ∈ lw_all := lw_g (lw_at lw_m13 46 rfl) rfl
theorem q3044 : (Jvm.Cond.methodLink "GangColumns" (398 : Nat) ({ cls := "GangColumns$Arm", name := "<init>", desc := "(III)V" } : Jvm.MethodName)) ∈ lw_all := lw_g (lw_at lw_m13 47 rfl) rfl
theorem q3045 : (Jvm.Cond.static ({ cls := "GangColumns", name := "lambda$shrunk$2", desc := "(LGangColumns$Orders;LGangColumns$Hold;)Z" } : Jvm.MethodName)) ∈ lw_all := lw_g (lw_at lw_m13 48 rfl) rfl
theorem q3046 : (Jvm.Cond.code ({ cls := "GangColumns", name := "lambda$shrunk$2", desc := "(LGangColumns$Orders;LGangColumns$Hold;)Z" } : Jvm.MethodName) prog_1_method_60_code (2 : Nat) (Option.some Jvm.ClassFile.FieldType.boolean)) ∈ lw_all := lw_g (lw_at lw_m13 49 rfl) rfl
theorem q3047 : (Jvm.Cond.methodLinkNest "GangColumns" (511 : Nat) ({ cls := "GangColumns$Orders", name := "matters", desc := "(LGangColumns$Hold;)Z" } : Jvm.MethodName) "GangColumns") ∈ lw_tbl := lw_at lw_m13 50 rfl
theorem q3048 : (Jvm.Cond.privateMethod ({ cls := "GangColumns$Orders", name := "matters", desc := "(LGangColumns$Hold;)Z" } : Jvm.MethodName)) ∈ lw_tbl := lw_at lw_m13 51 rfl
theorem q3049 : (Jvm.Cond.instanceMethod ({ cls := "GangColumns$Orders", name := "matters", desc := "(LGangColumns$Hold;)Z" } : Jvm.MethodName)) ∈ lw_all := lw_g (lw_at lw_m13 52 rfl) rfl
theorem q3050 : (Jvm.Cond.code ({ cls := "GangColumns$Orders", name := "matters", desc := "(LGangColumns$Hold;)Z" } : Jvm.MethodName) prog_22_method_4_code (2 : Nat) (Option.some Jvm.ClassFile.FieldType.boolean)) ∈ lw_all := lw_g (lw_at lw_m13 53 rfl) rfl
theorem q3051 : (Jvm.Cond.methodLink "GangColumns$Orders" (77 : Nat) ({ cls := "GangColumns$Orders", name := "isOwn", desc := "(LGangColumns$Hold;)Z" } : Jvm.MethodName)) ∈ lw_all := lw_g (lw_at lw_m13 54 rfl) rfl
theorem q3052 : (Jvm.Cond.instanceMethod ({ cls := "GangColumns$Orders", name := "isOwn", desc := "(LGangColumns$Hold;)Z" } : Jvm.MethodName)) ∈ lw_all := lw_g (lw_at lw_m13 55 rfl) rfl
theorem q3053 : (Jvm.Cond.selects "GangColumns$Orders" ({ cls := "GangColumns$Orders", name := "isOwn", desc := "(LGangColumns$Hold;)Z" } : Jvm.MethodName) ({ cls := "GangColumns$Orders", name := "isOwn", desc := "(LGangColumns$Hold;)Z" } : Jvm.MethodName)) ∈ lw_all := lw_g (lw_at lw_m13 56 rfl) rfl
theorem q3054 : (Jvm.Cond.code ({ cls := "GangColumns$Orders", name := "isOwn", desc := "(LGangColumns$Hold;)Z" } : Jvm.MethodName) prog_22_method_3_code (2 : Nat) (Option.some Jvm.ClassFile.FieldType.boolean)) ∈ lw_all := lw_g (lw_at lw_m13 57 rfl) rfl
theorem q3055 : (Jvm.Cond.classLink "GangColumns$Orders" (67 : Nat) "GangColumns$Promised") ∈ lw_all := lw_g (lw_at lw_m13 58 rfl) rfl
theorem q3056 : (Jvm.Cond.methodLink "GangColumns$Orders" (69 : Nat) ({ cls := "GangColumns$Hold", name := "of", desc := "()I" } : Jvm.MethodName)) ∈ lw_all := lw_g (lw_at lw_m13 59 rfl) rfl
theorem q3057 : (Jvm.Cond.methodLink "GangColumns$Orders" (84 : Nat) ({ cls := "GangColumns$Hold", name := "hinders", desc := "(I)Z" } : Jvm.MethodName)) ∈ lw_all := lw_g (lw_at lw_m13 60 rfl) rfl
theorem q3058 : (Jvm.Cond.methodLink "GangColumns" (413 : Nat) ({ cls := "GangColumns$Cluster", name := "fits", desc := "(LGangColumns$Job;ILGangColumns$Matters;)Z" } : Jvm.MethodName)) ∈ lw_all := lw_g (lw_at lw_m13 61 rfl) rfl
theorem q3059 : (Jvm.Cond.methodLink "GangColumnsLaw" (120 : Nat) ({ cls := "GangColumns", name := "moves", desc := "(I)I" } : Jvm.MethodName)) ∈ lw_all := lw_g (lw_at lw_m13 62 rfl) rfl
theorem q3060 : (Jvm.Cond.instanceMethod ({ cls := "GangColumns", name := "moves", desc := "(I)I" } : Jvm.MethodName)) ∈ lw_all := lw_g (lw_at lw_m13 63 rfl) rfl
theorem q3061 : (Jvm.Cond.selects "GangColumns" ({ cls := "GangColumns", name := "moves", desc := "(I)I" } : Jvm.MethodName) ({ cls := "GangColumns", name := "moves", desc := "(I)I" } : Jvm.MethodName)) ∈ lw_all := lw_g (lw_at lw_m13 64 rfl) rfl
theorem q3062 : (Jvm.Cond.code ({ cls := "GangColumns", name := "moves", desc := "(I)I" } : Jvm.MethodName) prog_1_method_44_code (6 : Nat) (Option.some Jvm.ClassFile.FieldType.int)) ∈ lw_all := lw_g (lw_at lw_m13 65 rfl) rfl
theorem q3063 : (Jvm.Cond.classLink "GangColumns" (44 : Nat) "java/util/ArrayList") ∈ lw_all := lw_g (lw_at lw_m13 66 rfl) rfl
theorem q3064 : (Jvm.Cond.methodLink "GangColumns" (417 : Nat) ({ cls := "java/util/ArrayList", name := "<init>", desc := "()V" } : Jvm.MethodName)) ∈ lw_all := lw_g (lw_at lw_m13 67 rfl) rfl
theorem q3065 : (Jvm.Cond.methodLink "GangColumns" (422 : Nat) ({ cls := "java/util/PriorityQueue", name := "iterator", desc := "()Ljava/util/Iterator;" } : Jvm.MethodName)) ∈ lw_all := lw_g (lw_at lw_m13 68 rfl) rfl
theorem q3066 : (Jvm.Cond.classLink "GangColumns" (425 : Nat) "GangColumns$Going") ∈ lw_all := lw_g (lw_at lw_m13 69 rfl) rfl
theorem q3067 : (Jvm.Cond.classLink "GangColumns" (427 : Nat) "GangColumns$Moves") ∈ lw_all := lw_g (lw_at lw_m13 70 rfl) rfl
theorem q3068 : (Jvm.Cond.instantiable "GangColumns$Moves" (4 : Nat)) ∈ lw_all := lw_g (lw_at lw_m13 71 rfl) rfl
theorem q3069 : (Jvm.Cond.methodLink "GangColumns" (429 : Nat) ({ cls := "GangColumns$Moves", name := "<init>", desc := "(LGangColumns;LGangColumns$Job;)V" } : Jvm.MethodName)) ∈ lw_all := lw_g (lw_at lw_m13 72 rfl) rfl
theorem q3070 : (Jvm.Cond.instanceMethod ({ cls := "GangColumns$Moves", name := "<init>", desc := "(LGangColumns;LGangColumns$Job;)V" } : Jvm.MethodName)) ∈ lw_all := lw_g (lw_at lw_m13 73 rfl) rfl
theorem q3071 : (Jvm.Cond.code ({ cls := "GangColumns$Moves", name := "<init>", desc := "(LGangColumns;LGangColumns$Job;)V" } : Jvm.MethodName) prog_21_method_1_code (3 : Nat) (Option.none : Option Jvm.ClassFile.FieldType)) ∈ lw_all := lw_g (lw_at lw_m13 74 rfl) rfl
theorem q3072 : (Jvm.Cond.methodLink "GangColumns$Moves" (9 : Nat) ({ cls := "java/lang/Object", name := "<init>", desc := "()V" } : Jvm.MethodName)) ∈ lw_all := lw_g (lw_at lw_m13 75 rfl) rfl
theorem q3073 : (Jvm.Cond.classLink "GangColumns$Moves" (15 : Nat) "java/util/ArrayList") ∈ lw_all := lw_g (lw_at lw_m13 76 rfl) rfl
theorem q3074 : (Jvm.Cond.methodLink "GangColumns$Moves" (17 : Nat) ({ cls := "java/util/ArrayList", name := "<init>", desc := "()V" } : Jvm.MethodName)) ∈ lw_all := lw_g (lw_at lw_m13 77 rfl) rfl
theorem q3075 : (Jvm.Cond.classLink "GangColumns$Moves" (26 : Nat) "GangColumns$Orders") ∈ lw_all := lw_g (lw_at lw_m13 78 rfl) rfl
theorem q3076 : (Jvm.Cond.methodLink "GangColumns$Moves" (38 : Nat) ({ cls := "GangColumns$Orders", name := "<init>", desc := "(LGangColumns;LGangColumns$Job;I)V" } : Jvm.MethodName)) ∈ lw_all := lw_g (lw_at lw_m13 79 rfl) rfl
theorem q3077 : (Jvm.Cond.fieldLink "GangColumns$Moves" (22 : Nat) "GangColumns$Moves" "job" "LGangColumns$Job;") ∈ lw_all := lw_g (lw_at lw_m13 80 rfl) rfl
theorem q3078 : (Jvm.Cond.fieldLink "GangColumns$Moves" (41 : Nat) "GangColumns$Moves" "own" "LGangColumns$Orders;") ∈ lw_all := lw_g (lw_at lw_m13 81 rfl) rfl
theorem q3079 : (Jvm.Cond.fieldLink "GangColumns$Moves" (18 : Nat) "GangColumns$Moves" "moved" "Ljava/util/ArrayList;") ∈ lw_all := lw_g (lw_at lw_m13 82 rfl) rfl
theorem q3080 : (Jvm.Cond.fieldLink "GangColumns$Moves" (3 : Nat) "GangColumns$Moves" "this$0" "LGangColumns;") ∈ lw_all := lw_g (lw_at lw_m13 83 rfl) rfl
theorem q3081 : (Jvm.Cond.laysFinal "GangColumns$Moves" "GangColumns$Moves" "job" "LGangColumns$Job;") ∈ lw_all := lw_g (lw_at lw_m13 84 rfl) rfl
theorem q3082 : (Jvm.Cond.soleField "GangColumns$Moves" "job") ∈ lw_all := lw_g (lw_at lw_m13 85 rfl) rfl
theorem q3083 : (Jvm.Cond.laysFinal "GangColumns$Moves" "GangColumns$Moves" "own" "LGangColumns$Orders;") ∈ lw_all := lw_g (lw_at lw_m13 86 rfl) rfl
theorem q3084 : (Jvm.Cond.soleField "GangColumns$Moves" "own") ∈ lw_all := lw_g (lw_at lw_m13 87 rfl) rfl
theorem q3085 : (Jvm.Cond.laysFinal "GangColumns$Moves" "GangColumns$Moves" "moved" "Ljava/util/ArrayList;") ∈ lw_all := lw_g (lw_at lw_m13 88 rfl) rfl
theorem q3086 : (Jvm.Cond.soleField "GangColumns$Moves" "moved") ∈ lw_all := lw_g (lw_at lw_m13 89 rfl) rfl
theorem q3087 : (Jvm.Cond.laysFinal "GangColumns$Moves" "GangColumns$Moves" "this$0" "LGangColumns;") ∈ lw_all := lw_g (lw_at lw_m13 90 rfl) rfl
theorem q3088 : (Jvm.Cond.soleField "GangColumns$Moves" "this$0") ∈ lw_all := lw_g (lw_at lw_m13 91 rfl) rfl
theorem q3089 : (Jvm.Cond.superclass "GangColumns$Moves" "java/lang/Object") ∈ lw_all := lw_g (lw_at lw_m13 92 rfl) rfl
theorem q3090 : (Jvm.Cond.methodLink "GangColumns" (432 : Nat) ({ cls := "GangColumns$Moves", name := "does", desc := "(Ljava/util/ArrayList;II)Z" } : Jvm.MethodName)) ∈ lw_all := lw_g (lw_at lw_m13 93 rfl) rfl
theorem q3091 : (Jvm.Cond.instanceMethod ({ cls := "GangColumns$Moves", name := "does", desc := "(Ljava/util/ArrayList;II)Z" } : Jvm.MethodName)) ∈ lw_all := lw_g (lw_at lw_m13 94 rfl) rfl
theorem q3092 : (Jvm.Cond.selects "GangColumns$Moves" ({ cls := "GangColumns$Moves", name := "does", desc := "(Ljava/util/ArrayList;II)Z" } : Jvm.MethodName) ({ cls := "GangColumns$Moves", name := "does", desc := "(Ljava/util/ArrayList;II)Z" } : Jvm.MethodName)) ∈ lw_all := lw_g (lw_at lw_m13 95 rfl) rfl
theorem q3093 : (Jvm.Cond.code ({ cls := "GangColumns$Moves", name := "does", desc := "(Ljava/util/ArrayList;II)Z" } : Jvm.MethodName) prog_21_method_6_code (6 : Nat) (Option.some Jvm.ClassFile.FieldType.boolean)) ∈ lw_all := lw_g (lw_at lw_m13 96 rfl) rfl
theorem q3094 : (Jvm.Cond.methodLink "GangColumns$Moves" (153 : Nat) ({ cls := "GangColumns$Moves", name := "isDone", desc := "()Z" } : Jvm.MethodName)) ∈ lw_all := lw_g (lw_at lw_m13 97 rfl) rfl
theorem q3095 : (Jvm.Cond.privateMethod ({ cls := "GangColumns$Moves", name := "isDone", desc := "()Z" } : Jvm.MethodName)) ∈ lw_tbl := lw_at lw_m13 98 rfl
theorem q3096 : (Jvm.Cond.instanceMethod ({ cls := "GangColumns$Moves", name := "isDone", desc := "()Z" } : Jvm.MethodName)) ∈ lw_all := lw_g (lw_at lw_m13 99 rfl) rfl
theorem q3097 : (Jvm.Cond.code ({ cls := "GangColumns$Moves", name := "isDone", desc := "()Z" } : Jvm.MethodName) prog_21_method_5_code (6 : Nat) (Option.some Jvm.ClassFile.FieldType.boolean)) ∈ lw_all := lw_g (lw_at lw_m13 100 rfl) rfl
theorem q3098 : (Jvm.Cond.methodLink "GangColumns$Moves" (133 : Nat) ({ cls := "GangColumns$Moves", name := "puts", desc := "(III[Z)Z" } : Jvm.MethodName)) ∈ lw_all := lw_g (lw_at lw_m13 101 rfl) rfl
theorem q3099 : (Jvm.Cond.privateMethod ({ cls := "GangColumns$Moves", name := "puts", desc := "(III[Z)Z" } : Jvm.MethodName)) ∈ lw_tbl := lw_at lw_m13 102 rfl
theorem q3100 : (Jvm.Cond.instanceMethod ({ cls := "GangColumns$Moves", name := "puts", desc := "(III[Z)Z" } : Jvm.MethodName)) ∈ lw_all := lw_g (lw_at lw_m13 103 rfl) rfl
theorem q3101 : (Jvm.Cond.code ({ cls := "GangColumns$Moves", name := "puts", desc := "(III[Z)Z" } : Jvm.MethodName) prog_21_method_4_code (7 : Nat) (Option.some Jvm.ClassFile.FieldType.boolean)) ∈ lw_all := lw_g (lw_at lw_m13 104 rfl) rfl
theorem q3102 : (Jvm.Cond.classLink "GangColumns$Moves" (105 : Nat) "GangColumns$FreeRuns") ∈ lw_all := lw_g (lw_at lw_m13 105 rfl) rfl
theorem q3103 : (Jvm.Cond.instantiable "GangColumns$FreeRuns" (1 : Nat)) ∈ lw_all := lw_g (lw_at lw_m13 106 rfl) rfl
theorem q3104 : (Jvm.Cond.methodLink "GangColumns$Moves" (107 : Nat) ({ cls := "GangColumns$Moves", name := "freeFor", desc := "(II[Z)[Z" } : Jvm.MethodName)) ∈ lw_all := lw_g (lw_at lw_m13 107 rfl) rfl
theorem q3105 : (Jvm.Cond.privateMethod ({ cls := "GangColumns$Moves", name := "freeFor", desc := "(II[Z)[Z" } : Jvm.MethodName)) ∈ lw_tbl := lw_at lw_m13 108 rfl
theorem q3106 : (Jvm.Cond.instanceMethod ({ cls := "GangColumns$Moves", name := "freeFor", desc := "(II[Z)[Z" } : Jvm.MethodName)) ∈ lw_all := lw_g (lw_at lw_m13 109 rfl) rfl
theorem q3107 : (Jvm.Cond.code ({ cls := "GangColumns$Moves", name := "freeFor", desc := "(II[Z)[Z" } : Jvm.MethodName) prog_21_method_3_code (7 : Nat) (Option.some (Jvm.ClassFile.FieldType.array Jvm.ClassFile.FieldType.boolean))) ∈ lw_all := lw_g (lw_at lw_m13 110 rfl) rfl
theorem q3108 : (Jvm.Cond.privateMethod ({ cls := "GangColumns$Moves", name := "lambda$freeFor$0", desc := "(IILGangColumns$Hold;)Z" } : Jvm.MethodName)) ∈ lw_tbl := lw_at lw_m13 111 rfl
theorem q3109 : (Jvm.Cond.instanceMethod ({ cls := "GangColumns$Moves", name := "lambda$freeFor$0", desc := "(IILGangColumns$Hold;)Z" } : Jvm.MethodName)) ∈ lw_all := lw_g (lw_at lw_m13 112 rfl) rfl
theorem q3110 : (Jvm.Cond.code ({ cls := "GangColumns$Moves", name := "lambda$freeFor$0", desc := "(IILGangColumns$Hold;)Z" } : Jvm.MethodName) prog_21_method_7_code (4 : Nat) (Option.some Jvm.ClassFile.FieldType.boolean)) ∈ lw_all := lw_g (lw_at lw_m13 113 rfl) rfl
theorem q3111 : (Jvm.Cond.methodLink "GangColumns$Moves" (173 : Nat) ({ cls := "GangColumns$Orders", name := "isOwn", desc := "(LGangColumns$Hold;)Z" } : Jvm.MethodName)) ∈ lw_all := lw_g (lw_at lw_m13 114 rfl) rfl
theorem q3112 : (Jvm.Cond.methodLink "GangColumns$Moves" (177 : Nat) ({ cls := "GangColumns$Moves", name := "isMoved", desc := "(LGangColumns$Hold;I)Z" } : Jvm.MethodName)) ∈ lw_all := lw_g (lw_at lw_m13 115 rfl) rfl
theorem q3113 : (Jvm.Cond.privateMethod ({ cls := "GangColumns$Moves", name := "isMoved", desc := "(LGangColumns$Hold;I)Z" } : Jvm.MethodName)) ∈ lw_tbl := lw_at lw_m13 116 rfl
theorem q3114 : (Jvm.Cond.instanceMethod ({ cls := "GangColumns$Moves", name := "isMoved", desc := "(LGangColumns$Hold;I)Z" } : Jvm.MethodName)) ∈ lw_all := lw_g (lw_at lw_m13 117 rfl) rfl
theorem q3115 : (Jvm.Cond.code ({ cls := "GangColumns$Moves", name := "isMoved", desc := "(LGangColumns$Hold;I)Z" } : Jvm.MethodName) prog_21_method_2_code (5 : Nat) (Option.some Jvm.ClassFile.FieldType.boolean)) ∈ lw_all := lw_g (lw_at lw_m13 118 rfl) rfl
theorem q3116 : (Jvm.Cond.methodLink "GangColumns$Moves" (45 : Nat) ({ cls := "java/util/ArrayList", name := "iterator", desc := "()Ljava/util/Iterator;" } : Jvm.MethodName)) ∈ lw_all := lw_g (lw_at lw_m13 119 rfl) rfl
theorem q3117 : (Jvm.Cond.interfaceEntry "GangColumns$Moves" (49 : Nat)) ∈ lw_tbl := lw_at lw_m13 120 rfl
theorem q3118 : (Jvm.Cond.methodLink "GangColumns$Moves" (49 : Nat) ({ cls := "java/util/Iterator", name := "hasNext", desc := "()Z" } : Jvm.MethodName)) ∈ lw_all := lw_g (lw_at lw_m13 121 rfl) rfl
theorem q3119 : (Jvm.Cond.interfaceEntry "GangColumns$Moves" (55 : Nat)) ∈ lw_tbl := lw_at lw_m13 122 rfl
theorem q3120 : (Jvm.Cond.methodLink "GangColumns$Moves" (55 : Nat) ({ cls := "java/util/Iterator", name := "next", desc := "()Ljava/lang/Object;" } : Jvm.MethodName)) ∈ lw_all := lw_g (lw_at lw_m13 123 rfl) rfl
theorem q3121 : (Jvm.Cond.classLink "GangColumns$Moves" (59 : Nat) "GangColumns$Going") ∈ lw_all := lw_g (lw_at lw_m13 124 rfl) rfl
theorem q3122 : (Jvm.Cond.classLink "GangColumns$Moves" (61 : Nat) "GangColumns$Runs") ∈ lw_all := lw_g (lw_at lw_m13 125 rfl) rfl
theorem q3123 : (Jvm.Cond.methodLink "GangColumns$Moves" (63 : Nat) ({ cls := "GangColumns$Hold", name := "of", desc := "()I" } : Jvm.MethodName)) ∈ lw_all := lw_g (lw_at lw_m13 126 rfl) rfl
theorem q3124 : (Jvm.Cond.methodLinkNest "GangColumns$Moves" (87 : Nat) ({ cls := "GangColumns", name := "within", desc := "(JJJ)Z" } : Jvm.MethodName) "GangColumns") ∈ lw_tbl := lw_at lw_m13 127 rfl
theorem q3125 : (Jvm.Cond.methodLink "GangColumns$Moves" (181 : Nat) ({ cls := "GangColumns$Hold", name := "hinders", desc := "(I)Z" } : Jvm.MethodName)) ∈ lw_all := lw_g (lw_at lw_m13 128 rfl) rfl
theorem q3126 : (Jvm.Cond.methodLink "GangColumns$Moves" (99 : Nat) ({ cls := "GangColumns$Column", name := "isFree", desc := "(IILGangColumns$Matters;)Z" } : Jvm.MethodName)) ∈ lw_all := lw_g (lw_at lw_m13 129 rfl) rfl
theorem q3127 : (Jvm.Cond.methodLink "GangColumns$Moves" (111 : Nat) ({ cls := "GangColumns$FreeRuns", name := "<init>", desc := "([Z)V" } : Jvm.MethodName)) ∈ lw_all := lw_g (lw_at lw_m13 130 rfl) rfl
theorem q3128 : (Jvm.Cond.instanceMethod ({ cls := "GangColumns$FreeRuns", name := "<init>", desc := "([Z)V" } : Jvm.MethodName)) ∈ lw_all := lw_g (lw_at lw_m13 131 rfl) rfl
theorem q3129 : (Jvm.Cond.code ({ cls := "GangColumns$FreeRuns", name := "<init>", desc := "([Z)V" } : Jvm.MethodName) prog_14_method_1_code (2 : Nat) (Option.none : Option Jvm.ClassFile.FieldType)) ∈ lw_all := lw_g (lw_at lw_m13 132 rfl) rfl
theorem q3130 : (Jvm.Cond.methodLink "GangColumns$FreeRuns" (1 : Nat) ({ cls := "java/lang/Object", name := "<init>", desc := "()V" } : Jvm.MethodName)) ∈ lw_all := lw_g (lw_at lw_m13 133 rfl) rfl
theorem q3131 : (Jvm.Cond.fieldLink "GangColumns$FreeRuns" (7 : Nat) "GangColumns$FreeRuns" "isFree" "[Z") ∈ lw_all := lw_g (lw_at lw_m13 134 rfl) rfl
theorem q3132 : (Jvm.Cond.fieldLinkNest "GangColumns$FreeRuns$1" (23 : Nat) "GangColumns$FreeRuns" "isFree" "[Z" "GangColumns") ∈ lw_tbl := lw_at lw_m13 135 rfl
theorem q3133 : (Jvm.Cond.laysFinal "GangColumns$FreeRuns" "GangColumns$FreeRuns" "isFree" "[Z") ∈ lw_all := lw_g (lw_at lw_m13 136 rfl) rfl
theorem q3134 : (Jvm.Cond.soleField "GangColumns$FreeRuns" "isFree") ∈ lw_all := lw_g (lw_at lw_m13 137 rfl) rfl
theorem q3135 : (Jvm.Cond.superclass "GangColumns$FreeRuns" "java/lang/Object") ∈ lw_all := lw_g (lw_at lw_m13 138 rfl) rfl
theorem q3136 : (Jvm.Cond.methodLink "GangColumns$Moves" (114 : Nat) ({ cls := "GangColumns$FreeRuns", name := "fits", desc := "(I)LGangColumns$Run;" } : Jvm.MethodName)) ∈ lw_all := lw_g (lw_at lw_m13 139 rfl) rfl
theorem q3137 : (Jvm.Cond.instanceMethod ({ cls := "GangColumns$FreeRuns", name := "fits", desc := "(I)LGangColumns$Run;" } : Jvm.MethodName)) ∈ lw_all := lw_g (lw_at lw_m13 140 rfl) rfl
theorem q3138 : (Jvm.Cond.selects "GangColumns$FreeRuns" ({ cls := "GangColumns$FreeRuns", name := "fits", desc := "(I)LGangColumns$Run;" } : Jvm.MethodName) ({ cls := "GangColumns$FreeRuns", name := "fits", desc := "(I)LGangColumns$Run;" } : Jvm.MethodName)) ∈ lw_all := lw_g (lw_at lw_m13 141 rfl) rfl
theorem q3139 : (Jvm.Cond.code ({ cls := "GangColumns$FreeRuns", name := "fits", desc := "(I)LGangColumns$Run;" } : Jvm.MethodName) prog_14_method_3_code (5 : Nat) (Option.some (Jvm.ClassFile.FieldType.object "GangColumns$Run"))) ∈ lw_all := lw_g (lw_at lw_m13 142 rfl) rfl
theorem q3140 : (Jvm.Cond.methodLink "GangColumns$FreeRuns" (18 : Nat) ({ cls := "GangColumns$FreeRuns", name := "iterator", desc := "()Ljava/util/Iterator;" } : Jvm.MethodName)) ∈ lw_all := lw_g (lw_at lw_m13 143 rfl) rfl
theorem q3141 : (Jvm.Cond.interfaceEntry "GangColumns$FreeRuns" (22 : Nat)) ∈ lw_tbl := lw_at lw_m13 144 rfl
theorem q3142 : (Jvm.Cond.methodLink "GangColumns$FreeRuns" (22 : Nat) ({ cls := "java/util/Iterator", name := "hasNext", desc := "()Z" } : Jvm.MethodName)) ∈ lw_all := lw_g (lw_at lw_m13 145 rfl) rfl
theorem q3143 : (Jvm.Cond.interfaceEntry "GangColumns$FreeRuns" (28 : Nat)) ∈ lw_tbl := lw_at lw_m13 146 rfl
theorem q3144 : (Jvm.Cond.methodLink "GangColumns$FreeRuns" (28 : Nat) ({ cls := "java/util/Iterator", name := "next", desc := "()Ljava/lang/Object;" } : Jvm.MethodName)) ∈ lw_all := lw_g (lw_at lw_m13 147 rfl) rfl
theorem q3145 : (Jvm.Cond.classLink "GangColumns$FreeRuns" (32 : Nat) "GangColumns$Run") ∈ lw_all := lw_g (lw_at lw_m13 148 rfl) rfl
theorem q3146 : (Jvm.Cond.classLink "GangColumns$Moves" (137 : Nat) "java/util/TreeSet") ∈ lw_all := lw_g (lw_at lw_m13 149 rfl) rfl
theorem q3147 : (Jvm.Cond.classLink "GangColumns$Moves" (139 : Nat) "GangColumns$WidestGoing") ∈ lw_all := lw_g (lw_at lw_m13 150 rfl) rfl
theorem q3148 : (Jvm.Cond.instantiable "GangColumns$WidestGoing" (0 : Nat)) ∈ lw_all := lw_g (lw_at lw_m13 151 rfl) rfl
theorem q3149 : (Jvm.Cond.methodLinkNest "GangColumns$Moves" (141 : Nat) ({ cls := "GangColumns$WidestGoing", name := "<init>", desc := "()V" } : Jvm.MethodName) "GangColumns") ∈ lw_tbl := lw_at lw_m13 152 rfl
theorem q3150 : (Jvm.Cond.instanceMethod ({ cls := "GangColumns$WidestGoing", name := "<init>", desc := "()V" } : Jvm.MethodName)) ∈ lw_all := lw_g (lw_at lw_m13 153 rfl) rfl
theorem q3151 : (Jvm.Cond.code ({ cls := "GangColumns$WidestGoing", name := "<init>", desc := "()V" } : Jvm.MethodName) prog_31_method_1_code (1 : Nat) (Option.none : Option Jvm.ClassFile.FieldType)) ∈ lw_all := lw_g (lw_at lw_m13 154 rfl) rfl
theorem q3152 : (Jvm.Cond.methodLink "GangColumns$WidestGoing" (1 : Nat) ({ cls := "java/lang/Object", name := "<init>", desc := "()V" } : Jvm.MethodName)) ∈ lw_all := lw_g (lw_at lw_m13 155 rfl) rfl
theorem q3153 : (Jvm.Cond.superclass "GangColumns$WidestGoing" "java/lang/Object") ∈ lw_all := lw_g (lw_at lw_m13 156 rfl) rfl
theorem q3154 : (Jvm.Cond.methodLink "GangColumns$Moves" (142 : Nat) ({ cls := "java/util/TreeSet", name := "<init>", desc := "(Ljava/util/Comparator;)V" } : Jvm.MethodName)) ∈ lw_all := lw_g (lw_at lw_m13 157 rfl) rfl
theorem q3155 : (Jvm.Cond.methodLink "GangColumns$Moves" (145 : Nat) ({ cls := "java/util/TreeSet", name := "addAll", desc := "(Ljava/util/Collection;)Z" } : Jvm.MethodName)) ∈ lw_all := lw_g (lw_at lw_m13 158 rfl) rfl
theorem q3156 : (Jvm.Cond.instanceMethod ({ cls := "java/util/TreeSet", name := "addAll", desc := "(Ljava/util/Collection;)Z" } : Jvm.MethodName)) ∈ lw_all := lw_g (lw_at lw_m13 159 rfl) rfl
theorem q3157 : (Jvm.Cond.selects "java/util/TreeSet" ({ cls := "java/util/TreeSet", name := "addAll", desc := "(Ljava/util/Collection;)Z" } : Jvm.MethodName) ({ cls := "java/util/TreeSet", name := "addAll", desc := "(Ljava/util/Collection;)Z" } : Jvm.MethodName)) ∈ lw_all := lw_g (lw_at lw_m13 160 rfl) rfl
theorem q3158 : (Jvm.Cond.code ({ cls := "java/util/TreeSet", name := "addAll", desc := "(Ljava/util/Collection;)Z" } : Jvm.MethodName) prog_93_method_15_code (4 : Nat) (Option.some Jvm.ClassFile.FieldType.boolean)) ∈ lw_all := lw_g (lw_at lw_m13 161 rfl) rfl
theorem q3159 : (Jvm.Cond.interfaceEntry "java/util/TreeSet" (80 : Nat)) ∈ lw_tbl := lw_at lw_m13 162 rfl
theorem q3160 : (Jvm.Cond.methodLink "java/util/TreeSet" (80 : Nat) ({ cls := "java/util/Collection", name := "size", desc := "()I" } : Jvm.MethodName)) ∈ lw_all := lw_g (lw_at lw_m13 163 rfl) rfl
theorem q3161 : (Jvm.Cond.interfaceMethod "java/util/Collection" "java/util/Collection" "size" "()I") ∈ lw_tbl := lw_at lw_m13 164 rfl
theorem q3162 : (Jvm.Cond.declares ({ cls := "java/util/Collection", name := "size", desc := "()I" } : Jvm.MethodName)) ∈ lw_tbl := lw_at lw_m13 165 rfl
theorem q3163 : (Jvm.Cond.selects "java/util/ArrayList" ({ cls := "java/util/Collection", name := "size", desc := "()I" } : Jvm.MethodName) ({ cls := "java/util/ArrayList", name := "size", desc := "()I" } : Jvm.MethodName)) ∈ lw_all := lw_g (lw_at lw_m13 166 rfl) rfl
theorem q3164 : (Jvm.Cond.unhidden "java/util/ArrayList" "size" "()I") ∈ lw_tbl := lw_at lw_m13 167 rfl
theorem q3165 : (Jvm.Cond.publicMethod ({ cls := "java/util/ArrayList", name := "size", desc := "()I" } : Jvm.MethodName)) ∈ lw_tbl := lw_at lw_m13 168 rfl
theorem q3166 : (Jvm.Cond.selects "java/util/PriorityQueue" ({ cls := "java/util/Collection", name := "size", desc := "()I" } : Jvm.MethodName) ({ cls := "java/util/PriorityQueue", name := "size", desc := "()I" } : Jvm.MethodName)) ∈ lw_all := lw_g (lw_at lw_m13 169 rfl) rfl
theorem q3167 : (Jvm.Cond.unhidden "java/util/PriorityQueue" "size" "()I") ∈ lw_tbl := lw_at lw_m13 170 rfl
theorem q3168 : (Jvm.Cond.publicMethod ({ cls := "java/util/PriorityQueue", name := "size", desc := "()I" } : Jvm.MethodName)) ∈ lw_tbl := lw_at lw_m13 171 rfl
theorem q3169 : (Jvm.Cond.selects "java/util/TreeMap$EntrySet" ({ cls := "java/util/Collection", name := "size", desc := "()I" } : Jvm.MethodName) ({ cls := "java/util/TreeMap$EntrySet", name := "size", desc := "()I" } : Jvm.MethodName)) ∈ lw_all := lw_g (lw_at lw_m13 172 rfl) rfl
theorem q3170 : (Jvm.Cond.unhidden "java/util/TreeMap$EntrySet" "size" "()I") ∈ lw_tbl := lw_at lw_m13 173 rfl
theorem q3171 : (Jvm.Cond.publicMethod ({ cls := "java/util/TreeMap$EntrySet", name := "size", desc := "()I" } : Jvm.MethodName)) ∈ lw_tbl := lw_at lw_m13 174 rfl
theorem q3172 : (Jvm.Cond.selects "java/util/TreeMap$KeySet" ({ cls := "java/util/Collection", name := "size", desc := "()I" } : Jvm.MethodName) ({ cls := "java/util/TreeMap$KeySet", name := "size", desc := "()I" } : Jvm.MethodName)) ∈ lw_all := lw_g (lw_at lw_m13 175 rfl) rfl
theorem q3173 : (Jvm.Cond.unhidden "java/util/TreeMap$KeySet" "size" "()I") ∈ lw_tbl := lw_at lw_m13 176 rfl
theorem q3174 : (Jvm.Cond.publicMethod ({ cls := "java/util/TreeMap$KeySet", name := "size", desc := "()I" } : Jvm.MethodName)) ∈ lw_tbl := lw_at lw_m13 177 rfl
theorem q3175 : (Jvm.Cond.selects "java/util/TreeMap$Values" ({ cls := "java/util/Collection", name := "size", desc := "()I" } : Jvm.MethodName) ({ cls := "java/util/TreeMap$Values", name := "size", desc := "()I" } : Jvm.MethodName)) ∈ lw_all := lw_g (lw_at lw_m13 178 rfl) rfl
theorem q3176 : (Jvm.Cond.unhidden "java/util/TreeMap$Values" "size" "()I") ∈ lw_tbl := lw_at lw_m13 179 rfl
theorem q3177 : (Jvm.Cond.publicMethod ({ cls := "java/util/TreeMap$Values", name := "size", desc := "()I" } : Jvm.MethodName)) ∈ lw_tbl := lw_at lw_m13 180 rfl
theorem q3178 : (Jvm.Cond.selects "java/util/TreeSet" ({ cls := "java/util/Collection", name := "size", desc := "()I" } : Jvm.MethodName) ({ cls := "java/util/TreeSet", name := "size", desc := "()I" } : Jvm.MethodName)) ∈ lw_all := lw_g (lw_at lw_m13 181 rfl) rfl
theorem q3179 : (Jvm.Cond.unhidden "java/util/TreeSet" "size" "()I") ∈ lw_tbl := lw_at lw_m13 182 rfl
theorem q3180 : (Jvm.Cond.publicMethod ({ cls := "java/util/TreeSet", name := "size", desc := "()I" } : Jvm.MethodName)) ∈ lw_tbl := lw_at lw_m13 183 rfl
theorem q3181 : (Jvm.Cond.classLink "java/util/TreeSet" (28 : Nat) "java/util/SortedSet") ∈ lw_all := lw_g (lw_at lw_m13 184 rfl) rfl
theorem q3182 : (Jvm.Cond.interfaceEntry "java/util/TreeSet" (27 : Nat)) ∈ lw_tbl := lw_at lw_m13 185 rfl
theorem q3183 : (Jvm.Cond.methodLink "java/util/TreeSet" (27 : Nat) ({ cls := "java/util/SortedSet", name := "comparator", desc := "()Ljava/util/Comparator;" } : Jvm.MethodName)) ∈ lw_all := lw_g (lw_at lw_m13 186 rfl) rfl
theorem q3184 : (Jvm.Cond.interfaceMethod "java/util/SortedSet" "java/util/SortedSet" "comparator" "()Ljava/util/Comparator;") ∈ lw_tbl := lw_at lw_m13 187 rfl
theorem q3185 : (Jvm.Cond.declares ({ cls := "java/util/SortedSet", name := "comparator", desc := "()Ljava/util/Comparator;" } : Jvm.MethodName)) ∈ lw_tbl := lw_at lw_m13 188 rfl
theorem q3186 : (Jvm.Cond.castable "java/util/TreeMap$KeySet" "java/util/SortedSet") ∈ lw_tbl := lw_at lw_m13 189 rfl
theorem q3187 : (Jvm.Cond.selects "java/util/TreeMap$KeySet" ({ cls := "java/util/SortedSet", name := "comparator", desc := "()Ljava/util/Comparator;" } : Jvm.MethodName) ({ cls := "java/util/TreeMap$KeySet", name := "comparator", desc := "()Ljava/util/Comparator;" } : Jvm.MethodName)) ∈ lw_all := lw_g (lw_at lw_m13 190 rfl) rfl
theorem q3188 : (Jvm.Cond.unhidden "java/util/TreeMap$KeySet" "comparator" "()Ljava/util/Comparator;") ∈ lw_tbl := lw_at lw_m13 191 rfl
theorem q3189 : (Jvm.Cond.instanceMethod ({ cls := "java/util/TreeMap$KeySet", name := "comparator", desc := "()Ljava/util/Comparator;" } : Jvm.MethodName)) ∈ lw_all := lw_g (lw_at lw_m13 192 rfl) rfl
theorem q3190 : (Jvm.Cond.publicMethod ({ cls := "java/util/TreeMap$KeySet", name := "comparator", desc := "()Ljava/util/Comparator;" } : Jvm.MethodName)) ∈ lw_tbl := lw_at lw_m13 193 rfl
theorem q3191 : (Jvm.Cond.code ({ cls := "java/util/TreeMap$KeySet", name := "comparator", desc := "()Ljava/util/Comparator;" } : Jvm.MethodName) prog_88_method_14_code (1 : Nat) (Option.some (Jvm.ClassFile.FieldType.object "java/util/Comparator"))) ∈ lw_all := lw_g (lw_at lw_m13 194 rfl) rfl
theorem q3192 : (Jvm.Cond.interfaceEntry "java/util/TreeMap$KeySet" (63 : Nat)) ∈ lw_tbl := lw_at lw_m13 195 rfl
theorem q3193 : (Jvm.Cond.publicMethod ({ cls := "java/util/SortedMap", name := "comparator", desc := "()Ljava/util/Comparator;" } : Jvm.MethodName)) ∈ lw_tbl := lw_at lw_m13 196 rfl
theorem q3194 : (Jvm.Cond.castable "java/util/TreeSet" "java/util/SortedSet") ∈ lw_tbl := lw_at lw_m13 197 rfl
theorem q3195 : (Jvm.Cond.selects "java/util/TreeSet" ({ cls := "java/util/SortedSet", name := "comparator", desc := "()Ljava/util/Comparator;" } : Jvm.MethodName) ({ cls := "java/util/TreeSet", name := "comparator", desc := "()Ljava/util/Comparator;" } : Jvm.MethodName)) ∈ lw_all := lw_g (lw_at lw_m13 198 rfl) rfl
theorem q3196 : (Jvm.Cond.unhidden "java/util/TreeSet" "comparator" "()Ljava/util/Comparator;") ∈ lw_tbl := lw_at lw_m13 199 rfl
theorem q3197 : (Jvm.Cond.instanceMethod ({ cls := "java/util/TreeSet", name := "comparator", desc := "()Ljava/util/Comparator;" } : Jvm.MethodName)) ∈ lw_all := lw_g (lw_at lw_m13 200 rfl) rfl
theorem q3198 : (Jvm.Cond.publicMethod ({ cls := "java/util/TreeSet", name := "comparator", desc := "()Ljava/util/Comparator;" } : Jvm.MethodName)) ∈ lw_tbl := lw_at lw_m13 201 rfl
theorem q3199 : (Jvm.Cond.code ({ cls := "java/util/TreeSet", name := "comparator", desc := "()Ljava/util/Comparator;" } : Jvm.MethodName) prog_93_method_22_code (1 : Nat) (Option.some (Jvm.ClassFile.FieldType.object "java/util/Comparator"))) ∈ lw_all := lw_g (lw_at lw_m13 202 rfl) rfl
theorem q3200 : (Jvm.Cond.interfaceEntry "java/util/TreeSet" (117 : Nat)) ∈ lw_tbl := lw_at lw_m13 203 rfl
theorem q3201 : (Jvm.Cond.methodLink "java/util/TreeSet" (83 : Nat) ({ cls := "java/util/TreeMap", name := "comparator", desc := "()Ljava/util/Comparator;" } : Jvm.MethodName)) ∈ lw_all := lw_g (lw_at lw_m13 204 rfl) rfl
theorem q3202 : (Jvm.Cond.methodLink "java/util/TreeSet" (84 : Nat) ({ cls := "java/util/Objects", name := "equals", desc := "(Ljava/lang/Object;Ljava/lang/Object;)Z" } : Jvm.MethodName)) ∈ lw_all := lw_g (lw_at lw_m13 205 rfl) rfl
theorem q3203 : (Jvm.Cond.methodLink "java/util/TreeSet" (90 : Nat) ({ cls := "java/util/TreeMap", name := "addAllForTreeSet", desc := "(Ljava/util/SortedSet;Ljava/lang/Object;)V" } : Jvm.MethodName)) ∈ lw_all := lw_g (lw_at lw_m13 206 rfl) rfl
theorem q3204 : (Jvm.Cond.instanceMethod ({ cls := "java/util/TreeMap", name := "addAllForTreeSet", desc := "(Ljava/util/SortedSet;Ljava/lang/Object;)V" } : Jvm.MethodName)) ∈ lw_all := lw_g (lw_at lw_m13 207 rfl) rfl
theorem q3205 : (Jvm.Cond.selects "java/util/TreeMap" ({ cls := "java/util/TreeMap", name := "addAllForTreeSet", desc := "(Ljava/util/SortedSet;Ljava/lang/Object;)V" } : Jvm.MethodName) ({ cls := "java/util/TreeMap", name := "addAllForTreeSet", desc := "(Ljava/util/SortedSet;Ljava/lang/Object;)V" } : Jvm.MethodName)) ∈ lw_all := lw_g (lw_at lw_m13 208 rfl) rfl
theorem q3206 : (Jvm.Cond.codeWith ({ cls := "java/util/TreeMap", name := "addAllForTreeSet", desc := "(Ljava/util/SortedSet;Ljava/lang/Object;)V" } : Jvm.MethodName) prog_83_method_89_code (4 : Nat) (Option.none : Option Jvm.ClassFile.FieldType) [((0 : Nat), (18 : Nat), (21 : Nat), (46 : Nat)), ((0 : Nat), (18 : Nat), (21 : Nat), (48 : Nat))]) ∈ lw_all := lw_g (lw_at lw_m13 209 rfl) rfl
theorem q3207 : (Jvm.Cond.interfaceEntry "java/util/TreeMap" (358 : Nat)) ∈ lw_tbl := lw_at lw_m13 210 rfl
theorem q3208 : (Jvm.Cond.publicMethod ({ cls := "java/util/Collection", name := "size", desc := "()I" } : Jvm.MethodName)) ∈ lw_tbl := lw_at lw_m13 211 rfl
theorem q3209 : (Jvm.Cond.interfaceEntry "java/util/TreeMap" (361 : Nat)) ∈ lw_tbl := lw_at lw_m13 212 rfl
theorem q3210 : (Jvm.Cond.publicMethod ({ cls := "java/lang/Iterable", name := "iterator", desc := "()Ljava/util/Iterator;" } : Jvm.MethodName)) ∈ lw_tbl := lw_at lw_m13 213 rfl
theorem q3211 : (Jvm.Cond.methodLink "java/util/TreeSet" (94 : Nat) ({ cls := "java/util/AbstractSet", name := "addAll", desc := "(Ljava/util/Collection;)Z" } : Jvm.MethodName)) ∈ lw_all := lw_g (lw_at lw_m13 214 rfl) rfl
theorem q3212 : (Jvm.Cond.sameMethod "java/util/AbstractSet" "java/util/AbstractCollection" "addAll" "(Ljava/util/Collection;)Z") ∈ lw_all := lw_g (lw_at lw_m13 215 rfl) rfl
theorem q3213 : (Jvm.Cond.declares ({ cls := "java/util/AbstractCollection", name := "addAll", desc := "(Ljava/util/Collection;)Z" } : Jvm.MethodName)) ∈ lw_tbl := lw_at lw_m13 216 rfl
theorem q3214 : (Jvm.Cond.superclass "java/util/AbstractSet" "java/util/AbstractCollection") ∈ lw_all := lw_g (lw_at lw_m13 217 rfl) rfl
theorem q3215 : (Jvm.Cond.instanceMethod ({ cls := "java/util/AbstractCollection", name := "addAll", desc := "(Ljava/util/Collection;)Z" } : Jvm.MethodName)) ∈ lw_all := lw_g (lw_at lw_m13 218 rfl) rfl
theorem q3216 : (Jvm.Cond.code ({ cls := "java/util/AbstractCollection", name := "addAll", desc := "(Ljava/util/Collection;)Z" } : Jvm.MethodName) prog_55_method_12_code (5 : Nat) (Option.some Jvm.ClassFile.FieldType.boolean)) ∈ lw_all := lw_g (lw_at lw_m13 219 rfl) rfl
theorem q3217 : (Jvm.Cond.interfaceEntry "java/util/AbstractCollection" (76 : Nat)) ∈ lw_tbl := lw_at lw_m13 220 rfl
theorem q3218 : (Jvm.Cond.methodLink "java/util/AbstractCollection" (76 : Nat) ({ cls := "java/util/Collection", name := "iterator", desc := "()Ljava/util/Iterator;" } : Jvm.MethodName)) ∈ lw_all := lw_g (lw_at lw_m13 221 rfl) rfl
theorem q3219 : (Jvm.Cond.methodLink "java/util/AbstractCollection" (82 : Nat) ({ cls := "java/util/AbstractCollection", name := "add", desc := "(Ljava/lang/Object;)Z" } : Jvm.MethodName)) ∈ lw_all := lw_g (lw_at lw_m13 222 rfl) rfl
theorem q3220 : (Jvm.Cond.instanceMethod ({ cls := "java/util/AbstractCollection", name := "add", desc := "(Ljava/lang/Object;)Z" } : Jvm.MethodName)) ∈ lw_all := lw_g (lw_at lw_m13 223 rfl) rfl
theorem q3221 : (Jvm.Cond.sameMethod "java/util/AbstractCollection" "java/util/AbstractCollection" "add" "(Ljava/lang/Object;)Z") ∈ lw_all := lw_g (lw_at lw_m13 224 rfl) rfl
theorem q3222 : (Jvm.Cond.selects "java/util/ArrayList" ({ cls := "java/util/AbstractCollection", name := "add", desc := "(Ljava/lang/Object;)Z" } : Jvm.MethodName) ({ cls := "java/util/ArrayList", name := "add", desc := "(Ljava/lang/Object;)Z" } : Jvm.MethodName)) ∈ lw_all := lw_g (lw_at lw_m13 225 rfl) rfl
theorem q3223 : (Jvm.Cond.selects "java/util/PriorityQueue" ({ cls := "java/util/AbstractCollection", name := "add", desc := "(Ljava/lang/Object;)Z" } : Jvm.MethodName) ({ cls := "java/util/PriorityQueue", name := "add", desc := "(Ljava/lang/Object;)Z" } : Jvm.MethodName)) ∈ lw_all := lw_g (lw_at lw_m13 226 rfl) rfl
theorem q3224 : (Jvm.Cond.selects "java/util/TreeMap$EntrySet" ({ cls := "java/util/AbstractCollection", name := "add", desc := "(Ljava/lang/Object;)Z" } : Jvm.MethodName) ({ cls := "java/util/AbstractCollection", name := "add", desc := "(Ljava/lang/Object;)Z" } : Jvm.MethodName)) ∈ lw_all := lw_g (lw_at lw_m13 227 rfl) rfl
theorem q3225 : (Jvm.Cond.selects "java/util/TreeMap$KeySet" ({ cls := "java/util/AbstractCollection", name := "add", desc := "(Ljava/lang/Object;)Z" } : Jvm.MethodName) ({ cls := "java/util/AbstractCollection", name := "add", desc := "(Ljava/lang/Object;)Z" } : Jvm.MethodName)) ∈ lw_all := lw_g (lw_at lw_m13 228 rfl) rfl
theorem q3226 : (Jvm.Cond.selects "java/util/TreeMap$Values" ({ cls := "java/util/AbstractCollection", name := "add", desc := "(Ljava/lang/Object;)Z" } : Jvm.MethodName) ({ cls := "java/util/AbstractCollection", name := "add", desc := "(Ljava/lang/Object;)Z" } : Jvm.MethodName)) ∈ lw_all := lw_g (lw_at lw_m13 229 rfl) rfl
theorem q3227 : (Jvm.Cond.selects "java/util/TreeSet" ({ cls := "java/util/AbstractCollection", name := "add", desc := "(Ljava/lang/Object;)Z" } : Jvm.MethodName) ({ cls := "java/util/TreeSet", name := "add", desc := "(Ljava/lang/Object;)Z" } : Jvm.MethodName)) ∈ lw_all := lw_g (lw_at lw_m13 230 rfl) rfl
theorem q3228 : (Jvm.Cond.code ({ cls := "java/util/AbstractCollection", name := "add", desc := "(Ljava/lang/Object;)Z" } : Jvm.MethodName) prog_55_method_9_code (2 : Nat) (Option.some Jvm.ClassFile.FieldType.boolean)) ∈ lw_all := lw_g (lw_at lw_m13 231 rfl) rfl
theorem q3229 : (Jvm.Cond.methodLink "GangColumns$Moves" (149 : Nat) ({ cls := "java/util/TreeSet", name := "iterator", desc := "()Ljava/util/Iterator;" } : Jvm.MethodName)) ∈ lw_all := lw_g (lw_at lw_m13 232 rfl) rfl
theorem q3230 : (Jvm.Cond.methodLink "GangColumns$Moves" (156 : Nat) ({ cls := "java/util/ArrayList", name := "size", desc := "()I" } : Jvm.MethodName)) ∈ lw_all := lw_g (lw_at lw_m13 233 rfl) rfl
theorem q3231 : (Jvm.Cond.methodLink "GangColumns$Moves" (159 : Nat) ({ cls := "java/util/ArrayList", name := "get", desc := "(I)Ljava/lang/Object;" } : Jvm.MethodName)) ∈ lw_all := lw_g (lw_at lw_m13 234 rfl) rfl
theorem q3232 : (Jvm.Cond.methodLink "GangColumns$Moves" (163 : Nat) ({ cls := "java/util/ArrayList", name := "add", desc := "(Ljava/lang/Object;)Z" } : Jvm.MethodName)) ∈ lw_all := lw_g (lw_at lw_m13 235 rfl) rfl
theorem q3233 : (Jvm.Cond.methodLink "GangColumns$Moves" (167 : Nat) ({ cls := "GangColumns$Moves", name := "does", desc := "(Ljava/util/ArrayList;II)Z" } : Jvm.MethodName)) ∈ lw_all := lw_g (lw_at lw_m13 236 rfl) rfl
theorem q3234 : (Jvm.Cond.methodLink "GangColumns$Moves" (170 : Nat) ({ cls := "java/util/ArrayList", name := "remove", desc := "(I)Ljava/lang/Object;" } : Jvm.MethodName)) ∈ lw_all := lw_g (lw_at lw_m13 237 rfl) rfl
theorem q3235 : (Jvm.Cond.methodLink "GangColumnsLaw" (124 : Nat) ({ cls := "GangColumns", name := "together", desc := "(II)I" } : Jvm.MethodName)) ∈ lw_all := lw_g (lw_at lw_m13 238 rfl) rfl
theorem q3236 : (Jvm.Cond.instanceMethod ({ cls := "GangColumns", name := "together", desc := "(II)I" } : Jvm.MethodName)) ∈ lw_all := lw_g (lw_at lw_m13 239 rfl) rfl
theorem q3237 : (Jvm.Cond.selects "GangColumns" ({ cls := "GangColumns", name := "together", desc := "(II)I" } : Jvm.MethodName) ({ cls := "GangColumns", name := "together", desc := "(II)I" } : Jvm.MethodName)) ∈ lw_all := lw_g (lw_at lw_m14 0 rfl) rfl
theorem q3238 : (Jvm.Cond.code ({ cls := "GangColumns", name := "together", desc := "(II)I" } : Jvm.MethodName) prog_1_method_46_code (5 : Nat) (Option.some Jvm.ClassFile.FieldType.int)) ∈ lw_all := lw_g (lw_at lw_m14 1 rfl) rfl
theorem q3239 : (Jvm.Cond.methodLink "GangColumns" (443 : Nat) ({ cls := "GangColumns", name := "areTogether", desc := "(LGangColumns$Job;LGangColumns$Job;)Z" } : Jvm.MethodName)) ∈ lw_all := lw_g (lw_at lw_m14 2 rfl) rfl
theorem q3240 : (Jvm.Cond.privateMethod ({ cls := "GangColumns", name := "areTogether", desc := "(LGangColumns$Job;LGangColumns$Job;)Z" } : Jvm.MethodName)) ∈ lw_tbl := lw_at lw_m14 3 rfl
theorem q3241 : (Jvm.Cond.instanceMethod ({ cls := "GangColumns", name := "areTogether", desc := "(LGangColumns$Job;LGangColumns$Job;)Z" } : Jvm.MethodName)) ∈ lw_all := lw_g (lw_at lw_m14 4 rfl) rfl
theorem q3242 : (Jvm.Cond.code ({ cls := "GangColumns", name := "areTogether", desc := "(LGangColumns$Job;LGangColumns$Job;)Z" } : Jvm.MethodName) prog_1_method_45_code (5 : Nat) (Option.some Jvm.ClassFile.FieldType.boolean)) ∈ lw_all := lw_g (lw_at lw_m14 5 rfl) rfl
theorem q3243 : (Jvm.Cond.static ({ cls := "GangColumns", name := "lambda$areTogether$3", desc := "(LGangColumns$Orders;LGangColumns$Orders;LGangColumns$Hold;)Z" } : Jvm.MethodName)) ∈ lw_all := lw_g (lw_at lw_m14 6 rfl) rfl
theorem q3244 : (Jvm.Cond.code ({ cls := "GangColumns", name := "lambda$areTogether$3", desc := "(LGangColumns$Orders;LGangColumns$Orders;LGangColumns$Hold;)Z" } : Jvm.MethodName) prog_1_method_59_code (3 : Nat) (Option.some Jvm.ClassFile.FieldType.boolean)) ∈ lw_all := lw_g (lw_at lw_m14 7 rfl) rfl
theorem q3245 : (Jvm.Cond.methodLink "GangColumns" (507 : Nat) ({ cls := "GangColumns$Orders", name := "isOwn", desc := "(LGangColumns$Hold;)Z" } : Jvm.MethodName)) ∈ lw_all := lw_g (lw_at lw_m14 8 rfl) rfl
theorem q3246 : (Jvm.Cond.static ({ cls := "GangColumns", name := "lambda$areTogether$4", desc := "(LGangColumns$Orders;LGangColumns$Orders;LGangColumns$Hold;)Z" } : Jvm.MethodName)) ∈ lw_all := lw_g (lw_at lw_m14 9 rfl) rfl
theorem q3247 : (Jvm.Cond.code ({ cls := "GangColumns", name := "lambda$areTogether$4", desc := "(LGangColumns$Orders;LGangColumns$Orders;LGangColumns$Hold;)Z" } : Jvm.MethodName) prog_1_method_58_code (3 : Nat) (Option.some Jvm.ClassFile.FieldType.boolean)) ∈ lw_all := lw_g (lw_at lw_m14 10 rfl) rfl
theorem q3248 : (Jvm.Cond.methodLink "GangColumns" (439 : Nat) ({ cls := "GangColumns$Cluster", name := "fit", desc := "(LGangColumns$Job;LGangColumns$Matters;LGangColumns$Job;LGangColumns$Matters;)Z" } : Jvm.MethodName)) ∈ lw_all := lw_g (lw_at lw_m14 11 rfl) rfl
theorem q3249 : (Jvm.Cond.instanceMethod ({ cls := "GangColumns$Cluster", name := "fit", desc := "(LGangColumns$Job;LGangColumns$Matters;LGangColumns$Job;LGangColumns$Matters;)Z" } : Jvm.MethodName)) ∈ lw_all := lw_g (lw_at lw_m14 12 rfl) rfl
theorem q3250 : (Jvm.Cond.selects "GangColumns$Cluster" ({ cls := "GangColumns$Cluster", name := "fit", desc := "(LGangColumns$Job;LGangColumns$Matters;LGangColumns$Job;LGangColumns$Matters;)Z" } : Jvm.MethodName) ({ cls := "GangColumns$Cluster", name := "fit", desc := "(LGangColumns$Job;LGangColumns$Matters;LGangColumns$Job;LGangColumns$Matters;)Z" } : Jvm.MethodName)) ∈ lw_all := lw_g (lw_at lw_m14 13 rfl) rfl
theorem q3251 : (Jvm.Cond.code ({ cls := "GangColumns$Cluster", name := "fit", desc := "(LGangColumns$Job;LGangColumns$Matters;LGangColumns$Job;LGangColumns$Matters;)Z" } : Jvm.MethodName) prog_8_method_19_code (5 : Nat) (Option.some Jvm.ClassFile.FieldType.boolean)) ∈ lw_all := lw_g (lw_at lw_m14 14 rfl) rfl
theorem q3252 : (Jvm.Cond.methodLink "GangColumnsLaw" (128 : Nat) ({ cls := "GangColumns", name := "gap", desc := "(III)I" } : Jvm.MethodName)) ∈ lw_all := lw_g (lw_at lw_m14 15 rfl) rfl
theorem q3253 : (Jvm.Cond.instanceMethod ({ cls := "GangColumns", name := "gap", desc := "(III)I" } : Jvm.MethodName)) ∈ lw_all := lw_g (lw_at lw_m14 16 rfl) rfl
theorem q3254 : (Jvm.Cond.selects "GangColumns" ({ cls := "GangColumns", name := "gap", desc := "(III)I" } : Jvm.MethodName) ({ cls := "GangColumns", name := "gap", desc := "(III)I" } : Jvm.MethodName)) ∈ lw_all := lw_g (lw_at lw_m14 17 rfl) rfl
theorem q3255 : (Jvm.Cond.code ({ cls := "GangColumns", name := "gap", desc := "(III)I" } : Jvm.MethodName) prog_1_method_47_code (8 : Nat) (Option.some Jvm.ClassFile.FieldType.int)) ∈ lw_all := lw_g (lw_at lw_m14 18 rfl) rfl
theorem q3256 : (Jvm.Cond.classLink "GangColumns" (351 : Nat) "GangColumns$Hold") ∈ lw_all := lw_g (lw_at lw_m14 19 rfl) rfl
theorem q3257 : (Jvm.Cond.methodLink "GangColumnsLaw" (132 : Nat) ({ cls := "GangColumns", name := "orders", desc := "(II)I" } : Jvm.MethodName)) ∈ lw_all := lw_g (lw_at lw_m14 20 rfl) rfl
theorem q3258 : (Jvm.Cond.instanceMethod ({ cls := "GangColumns", name := "orders", desc := "(II)I" } : Jvm.MethodName)) ∈ lw_all := lw_g (lw_at lw_m14 21 rfl) rfl
theorem q3259 : (Jvm.Cond.selects "GangColumns" ({ cls := "GangColumns", name := "orders", desc := "(II)I" } : Jvm.MethodName) ({ cls := "GangColumns", name := "orders", desc := "(II)I" } : Jvm.MethodName)) ∈ lw_all := lw_g (lw_at lw_m14 22 rfl) rfl
theorem q3260 : (Jvm.Cond.code ({ cls := "GangColumns", name := "orders", desc := "(II)I" } : Jvm.MethodName) prog_1_method_48_code (5 : Nat) (Option.some Jvm.ClassFile.FieldType.int)) ∈ lw_all := lw_g (lw_at lw_m14 23 rfl) rfl
theorem q3261 : (Jvm.Cond.constantLong "GangColumns" (456 : Nat) (20000 : Int64)) ∈ lw_all := lw_g (lw_at lw_m14 24 rfl) rfl
theorem q3262 : (Jvm.Cond.methodLink "GangColumns" (458 : Nat) ({ cls := "GangColumns$Orders", name := "from", desc := "(Ljava/util/ArrayList;)V" } : Jvm.MethodName)) ∈ lw_all := lw_g (lw_at lw_m14 25 rfl) rfl
theorem q3263 : (Jvm.Cond.instanceMethod ({ cls := "GangColumns$Orders", name := "from", desc := "(Ljava/util/ArrayList;)V" } : Jvm.MethodName)) ∈ lw_all := lw_g (lw_at lw_m14 26 rfl) rfl
theorem q3264 : (Jvm.Cond.selects "GangColumns$Orders" ({ cls := "GangColumns$Orders", name := "from", desc := "(Ljava/util/ArrayList;)V" } : Jvm.MethodName) ({ cls := "GangColumns$Orders", name := "from", desc := "(Ljava/util/ArrayList;)V" } : Jvm.MethodName)) ∈ lw_all := lw_g (lw_at lw_m14 27 rfl) rfl
theorem q3265 : (Jvm.Cond.code ({ cls := "GangColumns$Orders", name := "from", desc := "(Ljava/util/ArrayList;)V" } : Jvm.MethodName) prog_22_method_2_code (6 : Nat) (Option.none : Option Jvm.ClassFile.FieldType)) ∈ lw_all := lw_g (lw_at lw_m14 28 rfl) rfl
theorem q3266 : (Jvm.Cond.methodLink "GangColumns$Orders" (21 : Nat) ({ cls := "java/util/ArrayList", name := "size", desc := "()I" } : Jvm.MethodName)) ∈ lw_all := lw_g (lw_at lw_m14 29 rfl) rfl
theorem q3267 : (Jvm.Cond.methodLink "GangColumns$Orders" (46 : Nat) ({ cls := "GangColumns$Cluster", name := "fits", desc := "(Ljava/lang/Iterable;ILGangColumns$Matters;)Z" } : Jvm.MethodName)) ∈ lw_all := lw_g (lw_at lw_m14 30 rfl) rfl
theorem q3268 : (Jvm.Cond.instanceMethod ({ cls := "GangColumns$Cluster", name := "fits", desc := "(Ljava/lang/Iterable;ILGangColumns$Matters;)Z" } : Jvm.MethodName)) ∈ lw_all := lw_g (lw_at lw_m14 31 rfl) rfl
theorem q3269 : (Jvm.Cond.selects "GangColumns$Cluster" ({ cls := "GangColumns$Cluster", name := "fits", desc := "(Ljava/lang/Iterable;ILGangColumns$Matters;)Z" } : Jvm.MethodName) ({ cls := "GangColumns$Cluster", name := "fits", desc := "(Ljava/lang/Iterable;ILGangColumns$Matters;)Z" } : Jvm.MethodName)) ∈ lw_all := lw_g (lw_at lw_m14 32 rfl) rfl
theorem q3270 : (Jvm.Cond.code ({ cls := "GangColumns$Cluster", name := "fits", desc := "(Ljava/lang/Iterable;ILGangColumns$Matters;)Z" } : Jvm.MethodName) prog_8_method_18_code (4 : Nat) (Option.some Jvm.ClassFile.FieldType.boolean)) ∈ lw_all := lw_g (lw_at lw_m14 33 rfl) rfl
theorem q3271 : (Jvm.Cond.methodLink "GangColumns$Cluster" (311 : Nat) ({ cls := "GangColumns$Cluster", name := "take", desc := "(Ljava/lang/Iterable;ILGangColumns$Matters;)Z" } : Jvm.MethodName)) ∈ lw_all := lw_g (lw_at lw_m14 34 rfl) rfl
theorem q3272 : (Jvm.Cond.privateMethod ({ cls := "GangColumns$Cluster", name := "take", desc := "(Ljava/lang/Iterable;ILGangColumns$Matters;)Z" } : Jvm.MethodName)) ∈ lw_tbl := lw_at lw_m14 35 rfl
theorem q3273 : (Jvm.Cond.instanceMethod ({ cls := "GangColumns$Cluster", name := "take", desc := "(Ljava/lang/Iterable;ILGangColumns$Matters;)Z" } : Jvm.MethodName)) ∈ lw_all := lw_g (lw_at lw_m14 36 rfl) rfl
theorem q3274 : (Jvm.Cond.code ({ cls := "GangColumns$Cluster", name := "take", desc := "(Ljava/lang/Iterable;ILGangColumns$Matters;)Z" } : Jvm.MethodName) prog_8_method_13_code (6 : Nat) (Option.some Jvm.ClassFile.FieldType.boolean)) ∈ lw_all := lw_g (lw_at lw_m14 37 rfl) rfl
theorem q3275 : (Jvm.Cond.interfaceEntry "GangColumns$Cluster" (284 : Nat)) ∈ lw_tbl := lw_at lw_m14 38 rfl
theorem q3276 : (Jvm.Cond.methodLink "GangColumns$Cluster" (284 : Nat) ({ cls := "java/lang/Iterable", name := "iterator", desc := "()Ljava/util/Iterator;" } : Jvm.MethodName)) ∈ lw_all := lw_g (lw_at lw_m14 39 rfl) rfl
theorem q3277 : (Jvm.Cond.classLink "GangColumns$Cluster" (187 : Nat) "GangColumns$Arm") ∈ lw_all := lw_g (lw_at lw_m14 40 rfl) rfl
theorem q3278 : (Jvm.Cond.methodLink "GangColumns$Orders" (52 : Nat) ({ cls := "java/util/ArrayList", name := "contains", desc := "(Ljava/lang/Object;)Z" } : Jvm.MethodName)) ∈ lw_all := lw_g (lw_at lw_m14 41 rfl) rfl
theorem q3279 : (Jvm.Cond.instanceMethod ({ cls := "java/util/ArrayList", name := "contains", desc := "(Ljava/lang/Object;)Z" } : Jvm.MethodName)) ∈ lw_all := lw_g (lw_at lw_m14 42 rfl) rfl
theorem q3280 : (Jvm.Cond.selects "java/util/ArrayList" ({ cls := "java/util/ArrayList", name := "contains", desc := "(Ljava/lang/Object;)Z" } : Jvm.MethodName) ({ cls := "java/util/ArrayList", name := "contains", desc := "(Ljava/lang/Object;)Z" } : Jvm.MethodName)) ∈ lw_all := lw_g (lw_at lw_m14 43 rfl) rfl
theorem q3281 : (Jvm.Cond.code ({ cls := "java/util/ArrayList", name := "contains", desc := "(Ljava/lang/Object;)Z" } : Jvm.MethodName) prog_61_method_10_code (2 : Nat) (Option.some Jvm.ClassFile.FieldType.boolean)) ∈ lw_all := lw_g (lw_at lw_m14 44 rfl) rfl
theorem q3282 : (Jvm.Cond.methodLink "java/util/ArrayList" (85 : Nat) ({ cls := "java/util/ArrayList", name := "indexOf", desc := "(Ljava/lang/Object;)I" } : Jvm.MethodName)) ∈ lw_all := lw_g (lw_at lw_m14 45 rfl) rfl
theorem q3283 : (Jvm.Cond.instanceMethod ({ cls := "java/util/ArrayList", name := "indexOf", desc := "(Ljava/lang/Object;)I" } : Jvm.MethodName)) ∈ lw_all := lw_g (lw_at lw_m14 46 rfl) rfl
theorem q3284 : (Jvm.Cond.selects "java/util/ArrayList" ({ cls := "java/util/ArrayList", name := "indexOf", desc := "(Ljava/lang/Object;)I" } : Jvm.MethodName) ({ cls := "java/util/ArrayList", name := "indexOf", desc := "(Ljava/lang/Object;)I" } : Jvm.MethodName)) ∈ lw_all := lw_g (lw_at lw_m14 47 rfl) rfl
theorem q3285 : (Jvm.Cond.code ({ cls := "java/util/ArrayList", name := "indexOf", desc := "(Ljava/lang/Object;)I" } : Jvm.MethodName) prog_61_method_11_code (2 : Nat) (Option.some Jvm.ClassFile.FieldType.int)) ∈ lw_all := lw_g (lw_at lw_m14 48 rfl) rfl
theorem q3286 : (Jvm.Cond.methodLink "java/util/ArrayList" (89 : Nat) ({ cls := "java/util/ArrayList", name := "indexOfRange", desc := "(Ljava/lang/Object;II)I" } : Jvm.MethodName)) ∈ lw_all := lw_g (lw_at lw_m14 49 rfl) rfl
theorem q3287 : (Jvm.Cond.instanceMethod ({ cls := "java/util/ArrayList", name := "indexOfRange", desc := "(Ljava/lang/Object;II)I" } : Jvm.MethodName)) ∈ lw_all := lw_g (lw_at lw_m14 50 rfl) rfl
theorem q3288 : (Jvm.Cond.selects "java/util/ArrayList" ({ cls := "java/util/ArrayList", name := "indexOfRange", desc := "(Ljava/lang/Object;II)I" } : Jvm.MethodName) ({ cls := "java/util/ArrayList", name := "indexOfRange", desc := "(Ljava/lang/Object;II)I" } : Jvm.MethodName)) ∈ lw_all := lw_g (lw_at lw_m14 51 rfl) rfl
theorem q3289 : (Jvm.Cond.code ({ cls := "java/util/ArrayList", name := "indexOfRange", desc := "(Ljava/lang/Object;II)I" } : Jvm.MethodName) prog_61_method_12_code (6 : Nat) (Option.some Jvm.ClassFile.FieldType.int)) ∈ lw_all := lw_g (lw_at lw_m14 52 rfl) rfl
theorem q3290 : (Jvm.Cond.methodLink "java/util/ArrayList" (93 : Nat) ({ cls := "java/lang/Object", name := "equals", desc := "(Ljava/lang/Object;)Z" } : Jvm.MethodName)) ∈ lw_all := lw_g (lw_at lw_m14 53 rfl) rfl
theorem q3291 : (Jvm.Cond.methodLink "GangColumns$Orders" (56 : Nat) ({ cls := "java/util/ArrayList", name := "add", desc := "(Ljava/lang/Object;)Z" } : Jvm.MethodName)) ∈ lw_all := lw_g (lw_at lw_m14 54 rfl) rfl
theorem q3292 : (Jvm.Cond.methodLink "GangColumns$Orders" (59 : Nat) ({ cls := "GangColumns$Orders", name := "from", desc := "(Ljava/util/ArrayList;)V" } : Jvm.MethodName)) ∈ lw_all := lw_g (lw_at lw_m14 55 rfl) rfl
theorem q3293 : (Jvm.Cond.methodLink "GangColumns$Orders" (63 : Nat) ({ cls := "java/util/ArrayList", name := "remove", desc := "(I)Ljava/lang/Object;" } : Jvm.MethodName)) ∈ lw_all := lw_g (lw_at lw_m14 56 rfl) rfl
theorem q3294 : (Jvm.Cond.methodLink "GangColumnsLaw" (144 : Nat) ({ cls := "GangColumns", name := "holes", desc := "(III)I" } : Jvm.MethodName)) ∈ lw_all := lw_g (lw_at lw_m14 57 rfl) rfl
theorem q3295 : (Jvm.Cond.instanceMethod ({ cls := "GangColumns", name := "holes", desc := "(III)I" } : Jvm.MethodName)) ∈ lw_all := lw_g (lw_at lw_m14 58 rfl) rfl
theorem q3296 : (Jvm.Cond.selects "GangColumns" ({ cls := "GangColumns", name := "holes", desc := "(III)I" } : Jvm.MethodName) ({ cls := "GangColumns", name := "holes", desc := "(III)I" } : Jvm.MethodName)) ∈ lw_all := lw_g (lw_at lw_m14 59 rfl) rfl
theorem q3297 : (Jvm.Cond.code ({ cls := "GangColumns", name := "holes", desc := "(III)I" } : Jvm.MethodName) prog_1_method_49_code (7 : Nat) (Option.some Jvm.ClassFile.FieldType.int)) ∈ lw_all := lw_g (lw_at lw_m14 60 rfl) rfl
theorem q3298 : (Jvm.Cond.constantLong "GangColumns" (464 : Nat) (500 : Int64)) ∈ lw_all := lw_g (lw_at lw_m14 61 rfl) rfl
theorem q3299 : (Jvm.Cond.methodLink "GangColumns" (466 : Nat) ({ cls := "GangColumns", name := "isHole", desc := "(LGangColumns$Column;II)Z" } : Jvm.MethodName)) ∈ lw_all := lw_g (lw_at lw_m14 62 rfl) rfl
theorem q3300 : (Jvm.Cond.static ({ cls := "GangColumns", name := "isHole", desc := "(LGangColumns$Column;II)Z" } : Jvm.MethodName)) ∈ lw_all := lw_g (lw_at lw_m14 63 rfl) rfl
theorem q3301 : (Jvm.Cond.code ({ cls := "GangColumns", name := "isHole", desc := "(LGangColumns$Column;II)Z" } : Jvm.MethodName) prog_1_method_50_code (5 : Nat) (Option.some Jvm.ClassFile.FieldType.boolean)) ∈ lw_all := lw_g (lw_at lw_m14 64 rfl) rfl
theorem q3302 : (Jvm.Cond.classLink "GangColumns" (470 : Nat) "GangColumns$FreeRuns") ∈ lw_all := lw_g (lw_at lw_m14 65 rfl) rfl
theorem q3303 : (Jvm.Cond.methodLink "GangColumns" (472 : Nat) ({ cls := "GangColumns$FreeRuns", name := "<init>", desc := "([Z)V" } : Jvm.MethodName)) ∈ lw_all := lw_g (lw_at lw_m14 66 rfl) rfl
theorem q3304 : (Jvm.Cond.methodLink "GangColumns" (475 : Nat) ({ cls := "GangColumns$FreeRuns", name := "longest", desc := "()I" } : Jvm.MethodName)) ∈ lw_all := lw_g (lw_at lw_m14 67 rfl) rfl
theorem q3305 : (Jvm.Cond.instanceMethod ({ cls := "GangColumns$FreeRuns", name := "longest", desc := "()I" } : Jvm.MethodName)) ∈ lw_all := lw_g (lw_at lw_m14 68 rfl) rfl
theorem q3306 : (Jvm.Cond.selects "GangColumns$FreeRuns" ({ cls := "GangColumns$FreeRuns", name := "longest", desc := "()I" } : Jvm.MethodName) ({ cls := "GangColumns$FreeRuns", name := "longest", desc := "()I" } : Jvm.MethodName)) ∈ lw_all := lw_g (lw_at lw_m14 69 rfl) rfl
theorem q3307 : (Jvm.Cond.code ({ cls := "GangColumns$FreeRuns", name := "longest", desc := "()I" } : Jvm.MethodName) prog_14_method_4_code (4 : Nat) (Option.some Jvm.ClassFile.FieldType.int)) ∈ lw_all := lw_g (lw_at lw_m14 70 rfl) rfl
theorem q3308 : (Jvm.Cond.methodLink "GangColumns$FreeRuns" (38 : Nat) ({ cls := "java/lang/Math", name := "max", desc := "(II)I" } : Jvm.MethodName)) ∈ lw_all := lw_g (lw_at lw_m14 71 rfl) rfl
theorem q3309 : (Jvm.Cond.methodLink "GangColumnsLaw" (148 : Nat) ({ cls := "GangColumns", name := "led", desc := "(I)J" } : Jvm.MethodName)) ∈ lw_all := lw_g (lw_at lw_m14 72 rfl) rfl
theorem q3310 : (Jvm.Cond.instanceMethod ({ cls := "GangColumns", name := "led", desc := "(I)J" } : Jvm.MethodName)) ∈ lw_all := lw_g (lw_at lw_m14 73 rfl) rfl
theorem q3311 : (Jvm.Cond.selects "GangColumns" ({ cls := "GangColumns", name := "led", desc := "(I)J" } : Jvm.MethodName) ({ cls := "GangColumns", name := "led", desc := "(I)J" } : Jvm.MethodName)) ∈ lw_all := lw_g (lw_at lw_m14 74 rfl) rfl
theorem q3312 : (Jvm.Cond.code ({ cls := "GangColumns", name := "led", desc := "(I)J" } : Jvm.MethodName) prog_1_method_51_code (2 : Nat) (Option.some Jvm.ClassFile.FieldType.long)) ∈ lw_all := lw_g (lw_at lw_m14 75 rfl) rfl
theorem q3313 : (Jvm.Cond.methodLink "GangColumnsLaw" (152 : Nat) ({ cls := "GangColumns", name := "chart", desc := "(II)I" } : Jvm.MethodName)) ∈ lw_all := lw_g (lw_at lw_m14 76 rfl) rfl
theorem q3314 : (Jvm.Cond.instanceMethod ({ cls := "GangColumns", name := "chart", desc := "(II)I" } : Jvm.MethodName)) ∈ lw_all := lw_g (lw_at lw_m14 77 rfl) rfl
theorem q3315 : (Jvm.Cond.selects "GangColumns" ({ cls := "GangColumns", name := "chart", desc := "(II)I" } : Jvm.MethodName) ({ cls := "GangColumns", name := "chart", desc := "(II)I" } : Jvm.MethodName)) ∈ lw_all := lw_g (lw_at lw_m14 78 rfl) rfl
theorem q3316 : (Jvm.Cond.code ({ cls := "GangColumns", name := "chart", desc := "(II)I" } : Jvm.MethodName) prog_1_method_52_code (3 : Nat) (Option.some Jvm.ClassFile.FieldType.int)) ∈ lw_all := lw_g (lw_at lw_m14 79 rfl) rfl
theorem q3317 : (Jvm.Cond.constantLong "GangColumns" (481 : Nat) (64 : Int64)) ∈ lw_all := lw_g (lw_at lw_m14 80 rfl) rfl
theorem q3318 : (Jvm.Cond.methodLink "GangColumnsLaw" (156 : Nat) ({ cls := "GangColumns", name := "event", desc := "(II)I" } : Jvm.MethodName)) ∈ lw_all := lw_g (lw_at lw_m14 81 rfl) rfl
theorem q3319 : (Jvm.Cond.instanceMethod ({ cls := "GangColumns", name := "event", desc := "(II)I" } : Jvm.MethodName)) ∈ lw_all := lw_g (lw_at lw_m14 82 rfl) rfl
theorem q3320 : (Jvm.Cond.selects "GangColumns" ({ cls := "GangColumns", name := "event", desc := "(II)I" } : Jvm.MethodName) ({ cls := "GangColumns", name := "event", desc := "(II)I" } : Jvm.MethodName)) ∈ lw_all := lw_g (lw_at lw_m14 83 rfl) rfl
theorem q3321 : (Jvm.Cond.code ({ cls := "GangColumns", name := "event", desc := "(II)I" } : Jvm.MethodName) prog_1_method_53_code (3 : Nat) (Option.some Jvm.ClassFile.FieldType.int)) ∈ lw_all := lw_g (lw_at lw_m14 84 rfl) rfl
theorem q3322 : (Jvm.Cond.classLink "GangColumns" (161 : Nat) "GangColumns$Event") ∈ lw_all := lw_g (lw_at lw_m14 85 rfl) rfl
theorem q3323 : (Jvm.Cond.methodLink "GangColumns" (490 : Nat) ({ cls := "GangColumns$Event", name := "ask", desc := "(I)I" } : Jvm.MethodName)) ∈ lw_all := lw_g (lw_at lw_m14 86 rfl) rfl
theorem q3324 : (Jvm.Cond.instanceMethod ({ cls := "GangColumns$Event", name := "ask", desc := "(I)I" } : Jvm.MethodName)) ∈ lw_all := lw_g (lw_at lw_m14 87 rfl) rfl
theorem q3325 : (Jvm.Cond.selects "GangColumns$Event" ({ cls := "GangColumns$Event", name := "ask", desc := "(I)I" } : Jvm.MethodName) ({ cls := "GangColumns$Event", name := "ask", desc := "(I)I" } : Jvm.MethodName)) ∈ lw_all := lw_g (lw_at lw_m14 88 rfl) rfl
theorem q3326 : (Jvm.Cond.code ({ cls := "GangColumns$Event", name := "ask", desc := "(I)I" } : Jvm.MethodName) prog_11_method_2_code (2 : Nat) (Option.some Jvm.ClassFile.FieldType.int)) ∈ lw_all := lw_g (lw_at lw_m14 89 rfl) rfl
theorem q3327 : (Jvm.Cond.methodLink "GangColumnsLaw" (160 : Nat) ({ cls := "GangColumns", name := "started", desc := "(I)I" } : Jvm.MethodName)) ∈ lw_all := lw_g (lw_at lw_m14 90 rfl) rfl
theorem q3328 : (Jvm.Cond.instanceMethod ({ cls := "GangColumns", name := "started", desc := "(I)I" } : Jvm.MethodName)) ∈ lw_all := lw_g (lw_at lw_m14 91 rfl) rfl
theorem q3329 : (Jvm.Cond.selects "GangColumns" ({ cls := "GangColumns", name := "started", desc := "(I)I" } : Jvm.MethodName) ({ cls := "GangColumns", name := "started", desc := "(I)I" } : Jvm.MethodName)) ∈ lw_all := lw_g (lw_at lw_m14 92 rfl) rfl
theorem q3330 : (Jvm.Cond.code ({ cls := "GangColumns", name := "started", desc := "(I)I" } : Jvm.MethodName) prog_1_method_54_code (2 : Nat) (Option.some Jvm.ClassFile.FieldType.int)) ∈ lw_all := lw_g (lw_at lw_m14 93 rfl) rfl
theorem q3331 : (Jvm.Cond.methodLink "GangColumnsLaw" (164 : Nat) ({ cls := "GangColumns", name := "image", desc := "()I" } : Jvm.MethodName)) ∈ lw_all := lw_g (lw_at lw_m14 94 rfl) rfl
theorem q3332 : (Jvm.Cond.instanceMethod ({ cls := "GangColumns", name := "image", desc := "()I" } : Jvm.MethodName)) ∈ lw_all := lw_g (lw_at lw_m14 95 rfl) rfl
theorem q3333 : (Jvm.Cond.selects "GangColumns" ({ cls := "GangColumns", name := "image", desc := "()I" } : Jvm.MethodName) ({ cls := "GangColumns", name := "image", desc := "()I" } : Jvm.MethodName)) ∈ lw_all := lw_g (lw_at lw_m14 96 rfl) rfl
theorem q3334 : (Jvm.Cond.code ({ cls := "GangColumns", name := "image", desc := "()I" } : Jvm.MethodName) prog_1_method_55_code (1 : Nat) (Option.some Jvm.ClassFile.FieldType.int)) ∈ lw_all := lw_g (lw_at lw_m14 97 rfl) rfl
theorem q3335 : (Jvm.Cond.methodLink "GangColumns" (496 : Nat) ({ cls := "GangColumns$Cluster", name := "copy", desc := "()LGangColumns$Cluster;" } : Jvm.MethodName)) ∈ lw_all := lw_g (lw_at lw_m14 98 rfl) rfl
theorem q3336 : (Jvm.Cond.methodLink "GangColumnsLaw" (168 : Nat) ({ cls := "GangColumns", name := "back", desc := "()I" } : Jvm.MethodName)) ∈ lw_all := lw_g (lw_at lw_m14 99 rfl) rfl
theorem q3337 : (Jvm.Cond.instanceMethod ({ cls := "GangColumns", name := "back", desc := "()I" } : Jvm.MethodName)) ∈ lw_all := lw_g (lw_at lw_m14 100 rfl) rfl
theorem q3338 : (Jvm.Cond.selects "GangColumns" ({ cls := "GangColumns", name := "back", desc := "()I" } : Jvm.MethodName) ({ cls := "GangColumns", name := "back", desc := "()I" } : Jvm.MethodName)) ∈ lw_all := lw_g (lw_at lw_m14 101 rfl) rfl
theorem q3339 : (Jvm.Cond.code ({ cls := "GangColumns", name := "back", desc := "()I" } : Jvm.MethodName) prog_1_method_56_code (1 : Nat) (Option.some Jvm.ClassFile.FieldType.int)) ∈ lw_all := lw_g (lw_at lw_m14 102 rfl) rfl
theorem q3340 : (Jvm.Cond.methodLink "GangColumnsLaw" (172 : Nat) ({ cls := "GangColumns", name := "count", desc := "(I)I" } : Jvm.MethodName)) ∈ lw_all := lw_g (lw_at lw_m14 103 rfl) rfl
theorem q3341 : (Jvm.Cond.instanceMethod ({ cls := "GangColumns", name := "count", desc := "(I)I" } : Jvm.MethodName)) ∈ lw_all := lw_g (lw_at lw_m14 104 rfl) rfl
theorem q3342 : (Jvm.Cond.selects "GangColumns" ({ cls := "GangColumns", name := "count", desc := "(I)I" } : Jvm.MethodName) ({ cls := "GangColumns", name := "count", desc := "(I)I" } : Jvm.MethodName)) ∈ lw_all := lw_g (lw_at lw_m14 105 rfl) rfl
theorem q3343 : (Jvm.Cond.code ({ cls := "GangColumns", name := "count", desc := "(I)I" } : Jvm.MethodName) prog_1_method_57_code (2 : Nat) (Option.some Jvm.ClassFile.FieldType.int)) ∈ lw_all := lw_g (lw_at lw_m14 106 rfl) rfl
theorem q3344 : (Jvm.Cond.methodLink "GangColumns" (500 : Nat) ({ cls := "GangColumns$Cluster", name := "jobsThat", desc := "(I)I" } : Jvm.MethodName)) ∈ lw_all := lw_g (lw_at lw_m14 107 rfl) rfl
theorem q3345 : (Jvm.Cond.methodLink "GangColumns" (503 : Nat) ({ cls := "GangColumns$Cluster", name := "heldNow", desc := "()I" } : Jvm.MethodName)) ∈ lw_all := lw_g (lw_at lw_m14 108 rfl) rfl
theorem q3346 : (Jvm.Cond.instanceMethod ({ cls := "GangColumns$Cluster", name := "heldNow", desc := "()I" } : Jvm.MethodName)) ∈ lw_all := lw_g (lw_at lw_m14 109 rfl) rfl
theorem q3347 : (Jvm.Cond.selects "GangColumns$Cluster" ({ cls := "GangColumns$Cluster", name := "heldNow", desc := "()I" } : Jvm.MethodName) ({ cls := "GangColumns$Cluster", name := "heldNow", desc := "()I" } : Jvm.MethodName)) ∈ lw_all := lw_g (lw_at lw_m14 110 rfl) rfl
theorem q3348 : (Jvm.Cond.code ({ cls := "GangColumns$Cluster", name := "heldNow", desc := "()I" } : Jvm.MethodName) prog_8_method_38_code (4 : Nat) (Option.some Jvm.ClassFile.FieldType.int)) ∈ lw_all := lw_g (lw_at lw_m14 111 rfl) rfl
theorem q3349 : (Jvm.Cond.classLink "GangColumnsLaw" (10 : Nat) "GangColumnsModel") ∈ lw_all := lw_g (lw_at lw_m14 112 rfl) rfl
theorem q3350 : (Jvm.Cond.instantiable "GangColumnsModel" (26 : Nat)) ∈ lw_all := lw_g (lw_at lw_m14 113 rfl) rfl
theorem q3351 : (Jvm.Cond.methodLink "GangColumnsLaw" (12 : Nat) ({ cls := "GangColumnsModel", name := "<init>", desc := "()V" } : Jvm.MethodName)) ∈ lw_all := lw_g (lw_at lw_m14 114 rfl) rfl
theorem q3352 : (Jvm.Cond.instanceMethod ({ cls := "GangColumnsModel", name := "<init>", desc := "()V" } : Jvm.MethodName)) ∈ lw_all := lw_g (lw_at lw_m14 115 rfl) rfl
theorem q3353 : (Jvm.Cond.code ({ cls := "GangColumnsModel", name := "<init>", desc := "()V" } : Jvm.MethodName) prog_33_method_1_code (2 : Nat) (Option.none : Option Jvm.ClassFile.FieldType)) ∈ lw_all := lw_g (lw_at lw_m14 116 rfl) rfl
theorem q3354 : (Jvm.Cond.methodLink "GangColumnsModel" (3 : Nat) ({ cls := "java/lang/Object", name := "<init>", desc := "()V" } : Jvm.MethodName)) ∈ lw_all := lw_g (lw_at lw_m14 117 rfl) rfl
theorem q3355 : (Jvm.Cond.methodLink "GangColumnsModel" (73 : Nat) ({ cls := "GangColumnsModel", name := "lays", desc := "([I[I)V" } : Jvm.MethodName)) ∈ lw_all := lw_g (lw_at lw_m14 118 rfl) rfl
theorem q3356 : (Jvm.Cond.static ({ cls := "GangColumnsModel", name := "lays", desc := "([I[I)V" } : Jvm.MethodName)) ∈ lw_all := lw_g (lw_at lw_m14 119 rfl) rfl
theorem q3357 : (Jvm.Cond.code ({ cls := "GangColumnsModel", name := "lays", desc := "([I[I)V" } : Jvm.MethodName) prog_33_method_3_code (3 : Nat) (Option.none : Option Jvm.ClassFile.FieldType)) ∈ lw_all := lw_g (lw_at lw_m14 120 rfl) rfl
theorem q3358 : (Jvm.Cond.fieldLink "GangColumnsModel" (9 : Nat) "GangColumnsModel" "g" "[I") ∈ lw_all := lw_g (lw_at lw_m14 121 rfl) rfl
theorem q3359 : (Jvm.Cond.fieldLink "GangColumnsModel" (13 : Nat) "GangColumnsModel" "saved" "[I") ∈ lw_all := lw_g (lw_at lw_m14 122 rfl) rfl
theorem q3360 : (Jvm.Cond.fieldLink "GangColumnsModel" (16 : Nat) "GangColumnsModel" "kept" "[I") ∈ lw_all := lw_g (lw_at lw_m14 123 rfl) rfl
theorem q3361 : (Jvm.Cond.fieldLink "GangColumnsModel" (19 : Nat) "GangColumnsModel" "sums" "[J") ∈ lw_all := lw_g (lw_at lw_m14 124 rfl) rfl
theorem q3362 : (Jvm.Cond.fieldLink "GangColumnsModel" (23 : Nat) "GangColumnsModel" "savedSums" "[J") ∈ lw_all := lw_g (lw_at lw_m14 125 rfl) rfl
theorem q3363 : (Jvm.Cond.fieldLink "GangColumnsModel" (26 : Nat) "GangColumnsModel" "keptSums" "[J") ∈ lw_all := lw_g (lw_at lw_m14 126 rfl) rfl
theorem q3364 : (Jvm.Cond.fieldLink "GangColumnsModel" (29 : Nat) "GangColumnsModel" "tape" "[B") ∈ lw_all := lw_g (lw_at lw_m14 127 rfl) rfl
theorem q3365 : (Jvm.Cond.fieldLink "GangColumnsModel" (168 : Nat) "GangColumnsModel" "taped" "I") ∈ lw_all := lw_g (lw_at lw_m14 128 rfl) rfl
theorem q3366 : (Jvm.Cond.fieldLink "GangColumnsModel" (125 : Nat) "GangColumnsModel" "forWhom" "I") ∈ lw_all := lw_g (lw_at lw_m14 129 rfl) rfl
theorem q3367 : (Jvm.Cond.fieldLink "GangColumnsModel" (122 : Nat) "GangColumnsModel" "armMany" "I") ∈ lw_all := lw_g (lw_at lw_m14 130 rfl) rfl
theorem q3368 : (Jvm.Cond.fieldLink "GangColumnsModel" (33 : Nat) "GangColumnsModel" "wide" "[I") ∈ lw_all := lw_g (lw_at lw_m14 131 rfl) rfl
theorem q3369 : (Jvm.Cond.fieldLink "GangColumnsModel" (36 : Nat) "GangColumnsModel" "asks" "[I") ∈ lw_all := lw_g (lw_at lw_m14 132 rfl) rfl
theorem q3370 : (Jvm.Cond.fieldLink "GangColumnsModel" (39 : Nat) "GangColumnsModel" "found" "[I") ∈ lw_all := lw_g (lw_at lw_m14 133 rfl) rfl
theorem q3371 : (Jvm.Cond.fieldLink "GangColumnsModel" (42 : Nat) "GangColumnsModel" "skipA" "I") ∈ lw_all := lw_g (lw_at lw_m14 134 rfl) rfl
theorem q3372 : (Jvm.Cond.fieldLink "GangColumnsModel" (46 : Nat) "GangColumnsModel" "skipB" "I") ∈ lw_all := lw_g (lw_at lw_m14 135 rfl) rfl
theorem q3373 : (Jvm.Cond.fieldLink "GangColumnsModel" (49 : Nat) "GangColumnsModel" "goneA" "I") ∈ lw_all := lw_g (lw_at lw_m14 136 rfl) rfl
theorem q3374 : (Jvm.Cond.fieldLink "GangColumnsModel" (52 : Nat) "GangColumnsModel" "goneB" "I") ∈ lw_all := lw_g (lw_at lw_m14 137 rfl) rfl
theorem q3375 : (Jvm.Cond.fieldLink "GangColumnsModel" (119 : Nat) "GangColumnsModel" "moreMany" "I") ∈ lw_all := lw_g (lw_at lw_m14 138 rfl) rfl
theorem q3376 : (Jvm.Cond.fieldLink "GangColumnsModel" (55 : Nat) "GangColumnsModel" "moreBits" "[I") ∈ lw_all := lw_g (lw_at lw_m14 139 rfl) rfl
theorem q3377 : (Jvm.Cond.fieldLink "GangColumnsModel" (58 : Nat) "GangColumnsModel" "moreEnd" "[I") ∈ lw_all := lw_g (lw_at lw_m14 140 rfl) rfl
theorem q3378 : (Jvm.Cond.fieldLink "GangColumnsModel" (61 : Nat) "GangColumnsModel" "line" "[I") ∈ lw_all := lw_g (lw_at lw_m14 141 rfl) rfl
theorem q3379 : (Jvm.Cond.fieldLink "GangColumnsModel" (64 : Nat) "GangColumnsModel" "before" "[I") ∈ lw_all := lw_g (lw_at lw_m14 142 rfl) rfl
theorem q3380 : (Jvm.Cond.fieldLink "GangColumnsModel" (67 : Nat) "GangColumnsModel" "startsWith" "[I") ∈ lw_all := lw_g (lw_at lw_m14 143 rfl) rfl
theorem q3381 : (Jvm.Cond.fieldLink "GangColumnsModel" (171 : Nat) "GangColumnsModel" "spot" "I") ∈ lw_all := lw_g (lw_at lw_m14 144 rfl) rfl
theorem q3382 : (Jvm.Cond.fieldLink "GangColumnsModel" (70 : Nat) "GangColumnsModel" "written" "[I") ∈ lw_all := lw_g (lw_at lw_m14 145 rfl) rfl
theorem q3383 : (Jvm.Cond.fieldLink "GangColumnsModel" (235 : Nat) "GangColumnsModel" "writtenMany" "I") ∈ lw_all := lw_g (lw_at lw_m14 146 rfl) rfl
theorem q3384 : (Jvm.Cond.laysFinal "GangColumnsModel" "GangColumnsModel" "g" "[I") ∈ lw_all := lw_g (lw_at lw_m14 147 rfl) rfl
theorem q3385 : (Jvm.Cond.soleField "GangColumnsModel" "g") ∈ lw_all := lw_g (lw_at lw_m14 148 rfl) rfl
theorem q3386 : (Jvm.Cond.laysFinal "GangColumnsModel" "GangColumnsModel" "saved" "[I") ∈ lw_all := lw_g (lw_at lw_m14 149 rfl) rfl
theorem q3387 : (Jvm.Cond.soleField "GangColumnsModel" "saved") ∈ lw_all := lw_g (lw_at lw_m14 150 rfl) rfl
theorem q3388 : (Jvm.Cond.laysFinal "GangColumnsModel" "GangColumnsModel" "kept" "[I") ∈ lw_all := lw_g (lw_at lw_m14 151 rfl) rfl
theorem q3389 : (Jvm.Cond.soleField "GangColumnsModel" "kept") ∈ lw_all := lw_g (lw_at lw_m14 152 rfl) rfl
theorem q3390 : (Jvm.Cond.laysFinal "GangColumnsModel" "GangColumnsModel" "sums" "[J") ∈ lw_all := lw_g (lw_at lw_m14 153 rfl) rfl
theorem q3391 : (Jvm.Cond.soleField "GangColumnsModel" "sums") ∈ lw_all := lw_g (lw_at lw_m14 154 rfl) rfl
theorem q3392 : (Jvm.Cond.laysFinal "GangColumnsModel" "GangColumnsModel" "savedSums" "[J") ∈ lw_all := lw_g (lw_at lw_m14 155 rfl) rfl
theorem q3393 : (Jvm.Cond.soleField "GangColumnsModel" "savedSums") ∈ lw_all := lw_g (lw_at lw_m14 156 rfl) rfl
theorem q3394 : (Jvm.Cond.laysFinal "GangColumnsModel" "GangColumnsModel" "keptSums" "[J") ∈ lw_all := lw_g (lw_at lw_m14 157 rfl) rfl
theorem q3395 : (Jvm.Cond.soleField "GangColumnsModel" "keptSums") ∈ lw_all := lw_g (lw_at lw_m14 158 rfl) rfl
theorem q3396 : (Jvm.Cond.laysFinal "GangColumnsModel" "GangColumnsModel" "tape" "[B") ∈ lw_all := lw_g (lw_at lw_m14 159 rfl) rfl
theorem q3397 : (Jvm.Cond.soleField "GangColumnsModel" "tape") ∈ lw_all := lw_g (lw_at lw_m14 160 rfl) rfl
theorem q3398 : (Jvm.Cond.lays "GangColumnsModel" "GangColumnsModel" "taped" "I") ∈ lw_all := lw_g (lw_at lw_m14 161 rfl) rfl
theorem q3399 : (Jvm.Cond.soleField "GangColumnsModel" "taped") ∈ lw_all := lw_g (lw_at lw_m14 162 rfl) rfl
theorem q3400 : (Jvm.Cond.lays "GangColumnsModel" "GangColumnsModel" "forWhom" "I") ∈ lw_all := lw_g (lw_at lw_m14 163 rfl) rfl
theorem q3401 : (Jvm.Cond.soleField "GangColumnsModel" "forWhom") ∈ lw_all := lw_g (lw_at lw_m14 164 rfl) rfl
theorem q3402 : (Jvm.Cond.lays "GangColumnsModel" "GangColumnsModel" "armMany" "I") ∈ lw_all := lw_g (lw_at lw_m14 165 rfl) rfl
theorem q3403 : (Jvm.Cond.soleField "GangColumnsModel" "armMany") ∈ lw_all := lw_g (lw_at lw_m14 166 rfl) rfl
theorem q3404 : (Jvm.Cond.laysFinal "GangColumnsModel" "GangColumnsModel" "wide" "[I") ∈ lw_all := lw_g (lw_at lw_m14 167 rfl) rfl
theorem q3405 : (Jvm.Cond.soleField "GangColumnsModel" "wide") ∈ lw_all := lw_g (lw_at lw_m14 168 rfl) rfl
theorem q3406 : (Jvm.Cond.laysFinal "GangColumnsModel" "GangColumnsModel" "asks" "[I") ∈ lw_all := lw_g (lw_at lw_m14 169 rfl) rfl
theorem q3407 : (Jvm.Cond.soleField "GangColumnsModel" "asks") ∈ lw_all := lw_g (lw_at lw_m14 170 rfl) rfl
theorem q3408 : (Jvm.Cond.laysFinal "GangColumnsModel" "GangColumnsModel" "found" "[I") ∈ lw_all := lw_g (lw_at lw_m14 171 rfl) rfl
theorem q3409 : (Jvm.Cond.soleField "GangColumnsModel" "found") ∈ lw_all := lw_g (lw_at lw_m14 172 rfl) rfl
theorem q3410 : (Jvm.Cond.lays "GangColumnsModel" "GangColumnsModel" "skipA" "I") ∈ lw_all := lw_g (lw_at lw_m14 173 rfl) rfl
theorem q3411 : (Jvm.Cond.soleField "GangColumnsModel" "skipA") ∈ lw_all := lw_g (lw_at lw_m14 174 rfl) rfl
theorem q3412 : (Jvm.Cond.lays "GangColumnsModel" "GangColumnsModel" "skipB" "I") ∈ lw_all := lw_g (lw_at lw_m14 175 rfl) rfl
theorem q3413 : (Jvm.Cond.soleField "GangColumnsModel" "skipB") ∈ lw_all := lw_g (lw_at lw_m14 176 rfl) rfl
theorem q3414 : (Jvm.Cond.lays "GangColumnsModel" "GangColumnsModel" "goneA" "I") ∈ lw_all := lw_g (lw_at lw_m14 177 rfl) rfl
theorem q3415 : (Jvm.Cond.soleField "GangColumnsModel" "goneA") ∈ lw_all := lw_g (lw_at lw_m14 178 rfl) rfl
theorem q3416 : (Jvm.Cond.lays "GangColumnsModel" "GangColumnsModel" "goneB" "I") ∈ lw_all := lw_g (lw_at lw_m14 179 rfl) rfl
theorem q3417 : (Jvm.Cond.soleField "GangColumnsModel" "goneB") ∈ lw_all := lw_g (lw_at lw_m14 180 rfl) rfl
theorem q3418 : (Jvm.Cond.lays "GangColumnsModel" "GangColumnsModel" "moreMany" "I") ∈ lw_all := lw_g (lw_at lw_m14 181 rfl) rfl
theorem q3419 : (Jvm.Cond.soleField "GangColumnsModel" "moreMany") ∈ lw_all := lw_g (lw_at lw_m14 182 rfl) rfl
theorem q3420 : (Jvm.Cond.laysFinal "GangColumnsModel" "GangColumnsModel" "moreBits" "[I") ∈ lw_all := lw_g (lw_at lw_m14 183 rfl) rfl
theorem q3421 : (Jvm.Cond.soleField "GangColumnsModel" "moreBits") ∈ lw_all := lw_g (lw_at lw_m14 184 rfl) rfl
theorem q3422 : (Jvm.Cond.laysFinal "GangColumnsModel" "GangColumnsModel" "moreEnd" "[I") ∈ lw_all := lw_g (lw_at lw_m14 185 rfl) rfl
theorem q3423 : (Jvm.Cond.soleField "GangColumnsModel" "moreEnd") ∈ lw_all := lw_g (lw_at lw_m14 186 rfl) rfl
theorem q3424 : (Jvm.Cond.laysFinal "GangColumnsModel" "GangColumnsModel" "line" "[I") ∈ lw_all := lw_g (lw_at lw_m14 187 rfl) rfl
theorem q3425 : (Jvm.Cond.soleField "GangColumnsModel" "line") ∈ lw_all := lw_g (lw_at lw_m14 188 rfl) rfl
theorem q3426 : (Jvm.Cond.laysFinal "GangColumnsModel" "GangColumnsModel" "before" "[I") ∈ lw_all := lw_g (lw_at lw_m14 189 rfl) rfl
theorem q3427 : (Jvm.Cond.soleField "GangColumnsModel" "before") ∈ lw_all := lw_g (lw_at lw_m14 190 rfl) rfl
theorem q3428 : (Jvm.Cond.laysFinal "GangColumnsModel" "GangColumnsModel" "startsWith" "[I") ∈ lw_all := lw_g (lw_at lw_m14 191 rfl) rfl
theorem q3429 : (Jvm.Cond.soleField "GangColumnsModel" "startsWith") ∈ lw_all := lw_g (lw_at lw_m14 192 rfl) rfl
theorem q3430 : (Jvm.Cond.lays "GangColumnsModel" "GangColumnsModel" "spot" "I") ∈ lw_all := lw_g (lw_at lw_m14 193 rfl) rfl
theorem q3431 : (Jvm.Cond.soleField "GangColumnsModel" "spot") ∈ lw_all := lw_g (lw_at lw_m14 194 rfl) rfl
theorem q3432 : (Jvm.Cond.laysFinal "GangColumnsModel" "GangColumnsModel" "written" "[I") ∈ lw_all := lw_g (lw_at lw_m14 195 rfl) rfl
theorem q3433 : (Jvm.Cond.soleField "GangColumnsModel" "written") ∈ lw_all := lw_g (lw_at lw_m14 196 rfl) rfl
theorem q3434 : (Jvm.Cond.lays "GangColumnsModel" "GangColumnsModel" "writtenMany" "I") ∈ lw_all := lw_g (lw_at lw_m14 197 rfl) rfl
theorem q3435 : (Jvm.Cond.soleField "GangColumnsModel" "writtenMany") ∈ lw_all := lw_g (lw_at lw_m14 198 rfl) rfl
theorem q3436 : (Jvm.Cond.superclass "GangColumnsModel" "java/lang/Object") ∈ lw_all := lw_g (lw_at lw_m14 199 rfl) rfl
theorem q3437 : (Jvm.Cond.methodLink "GangColumnsLaw" (17 : Nat) ({ cls := "GangColumnsModel", name := "weight", desc := "(II)I" } : Jvm.MethodName)) ∈ lw_all := lw_g (lw_at lw_m14 200 rfl) rfl
theorem q3438 : (Jvm.Cond.instanceMethod ({ cls := "GangColumnsModel", name := "weight", desc := "(II)I" } : Jvm.MethodName)) ∈ lw_all := lw_g (lw_at lw_m14 201 rfl) rfl
theorem q3439 : (Jvm.Cond.selects "GangColumnsModel" ({ cls := "GangColumnsModel", name := "weight", desc := "(II)I" } : Jvm.MethodName) ({ cls := "GangColumnsModel", name := "weight", desc := "(II)I" } : Jvm.MethodName)) ∈ lw_all := lw_g (lw_at lw_m14 202 rfl) rfl
theorem q3440 : (Jvm.Cond.code ({ cls := "GangColumnsModel", name := "weight", desc := "(II)I" } : Jvm.MethodName) prog_33_method_28_code (4 : Nat) (Option.some Jvm.ClassFile.FieldType.int)) ∈ lw_all := lw_g (lw_at lw_m14 203 rfl) rfl
theorem q3441 : (Jvm.Cond.methodLink "GangColumnsModel" (145 : Nat) ({ cls := "GangColumnsModel", name := "isAccount", desc := "(I)Z" } : Jvm.MethodName)) ∈ lw_all := lw_g (lw_at lw_m14 204 rfl) rfl
theorem q3442 : (Jvm.Cond.static ({ cls := "GangColumnsModel", name := "isAccount", desc := "(I)Z" } : Jvm.MethodName)) ∈ lw_all := lw_g (lw_at lw_m14 205 rfl) rfl
theorem q3443 : (Jvm.Cond.code ({ cls := "GangColumnsModel", name := "isAccount", desc := "(I)Z" } : Jvm.MethodName) prog_33_method_5_code (1 : Nat) (Option.some Jvm.ClassFile.FieldType.boolean)) ∈ lw_all := lw_g (lw_at lw_m14 206 rfl) rfl
theorem q3444 : (Jvm.Cond.constantLong "GangColumnsModel" (77 : Nat) (7 : Int64)) ∈ lw_all := lw_g (lw_at lw_m14 207 rfl) rfl
theorem q3445 : (Jvm.Cond.methodLink "GangColumnsModel" (79 : Nat) ({ cls := "GangColumnsModel", name := "in", desc := "(JJJ)Z" } : Jvm.MethodName)) ∈ lw_all := lw_g (lw_at lw_m14 208 rfl) rfl
theorem q3446 : (Jvm.Cond.static ({ cls := "GangColumnsModel", name := "in", desc := "(JJJ)Z" } : Jvm.MethodName)) ∈ lw_all := lw_g (lw_at lw_m14 209 rfl) rfl
theorem q3447 : (Jvm.Cond.code ({ cls := "GangColumnsModel", name := "in", desc := "(JJJ)Z" } : Jvm.MethodName) prog_33_method_2_code (6 : Nat) (Option.some Jvm.ClassFile.FieldType.boolean)) ∈ lw_all := lw_g (lw_at lw_m14 210 rfl) rfl
theorem q3448 : (Jvm.Cond.constantLong "GangColumnsModel" (148 : Nat) (100 : Int64)) ∈ lw_all := lw_g (lw_at lw_m14 211 rfl) rfl
theorem q3449 : (Jvm.Cond.methodLink "GangColumnsLaw" (21 : Nat) ({ cls := "GangColumnsModel", name := "limit", desc := "(II)I" } : Jvm.MethodName)) ∈ lw_all := lw_g (lw_at lw_m14 212 rfl) rfl
theorem q3450 : (Jvm.Cond.instanceMethod ({ cls := "GangColumnsModel", name := "limit", desc := "(II)I" } : Jvm.MethodName)) ∈ lw_all := lw_g (lw_at lw_m14 213 rfl) rfl
theorem q3451 : (Jvm.Cond.selects "GangColumnsModel" ({ cls := "GangColumnsModel", name := "limit", desc := "(II)I" } : Jvm.MethodName) ({ cls := "GangColumnsModel", name := "limit", desc := "(II)I" } : Jvm.MethodName)) ∈ lw_all := lw_g (lw_at lw_m14 214 rfl) rfl
theorem q3452 : (Jvm.Cond.code ({ cls := "GangColumnsModel", name := "limit", desc := "(II)I" } : Jvm.MethodName) prog_33_method_29_code (4 : Nat) (Option.some Jvm.ClassFile.FieldType.int)) ∈ lw_all := lw_g (lw_at lw_m14 215 rfl) rfl
theorem q3453 : (Jvm.Cond.constantLong "GangColumnsModel" (150 : Nat) (16 : Int64)) ∈ lw_all := lw_g (lw_at lw_m14 216 rfl) rfl
theorem q3454 : (Jvm.Cond.methodLink "GangColumnsLaw" (26 : Nat) ({ cls := "GangColumnsModel", name := "ranked", desc := "(I)I" } : Jvm.MethodName)) ∈ lw_all := lw_g (lw_at lw_m14 217 rfl) rfl
theorem q3455 : (Jvm.Cond.instanceMethod ({ cls := "GangColumnsModel", name := "ranked", desc := "(I)I" } : Jvm.MethodName)) ∈ lw_all := lw_g (lw_at lw_m14 218 rfl) rfl
theorem q3456 : (Jvm.Cond.selects "GangColumnsModel" ({ cls := "GangColumnsModel", name := "ranked", desc := "(I)I" } : Jvm.MethodName) ({ cls := "GangColumnsModel", name := "ranked", desc := "(I)I" } : Jvm.MethodName)) ∈ lw_all := lw_g (lw_at lw_m14 219 rfl) rfl
theorem q3457 : (Jvm.Cond.code ({ cls := "GangColumnsModel", name := "ranked", desc := "(I)I" } : Jvm.MethodName) prog_33_method_31_code (6 : Nat) (Option.some Jvm.ClassFile.FieldType.int)) ∈ lw_all := lw_g (lw_at lw_m14 220 rfl) rfl
theorem q3458 : (Jvm.Cond.methodLink "GangColumnsModel" (152 : Nat) ({ cls := "GangColumnsModel", name := "byShare", desc := "(II)I" } : Jvm.MethodName)) ∈ lw_all := lw_g (lw_at lw_m14 221 rfl) rfl
theorem q3459 : (Jvm.Cond.privateMethod ({ cls := "GangColumnsModel", name := "byShare", desc := "(II)I" } : Jvm.MethodName)) ∈ lw_tbl := lw_at lw_m14 222 rfl
theorem q3460 : (Jvm.Cond.instanceMethod ({ cls := "GangColumnsModel", name := "byShare", desc := "(II)I" } : Jvm.MethodName)) ∈ lw_all := lw_g (lw_at lw_m14 223 rfl) rfl
theorem q3461 : (Jvm.Cond.code ({ cls := "GangColumnsModel", name := "byShare", desc := "(II)I" } : Jvm.MethodName) prog_33_method_30_code (7 : Nat) (Option.some Jvm.ClassFile.FieldType.int)) ∈ lw_all := lw_g (lw_at lw_m14 224 rfl) rfl
theorem q3462 : (Jvm.Cond.methodLink "GangColumnsLaw" (30 : Nat) ({ cls := "GangColumnsModel", name := "rule", desc := "(II)I" } : Jvm.MethodName)) ∈ lw_all := lw_g (lw_at lw_m14 225 rfl) rfl
theorem q3463 : (Jvm.Cond.instanceMethod ({ cls := "GangColumnsModel", name := "rule", desc := "(II)I" } : Jvm.MethodName)) ∈ lw_all := lw_g (lw_at lw_m14 226 rfl) rfl
theorem q3464 : (Jvm.Cond.selects "GangColumnsModel" ({ cls := "GangColumnsModel", name := "rule", desc := "(II)I" } : Jvm.MethodName) ({ cls := "GangColumnsModel", name := "rule", desc := "(II)I" } : Jvm.MethodName)) ∈ lw_all := lw_g (lw_at lw_m14 227 rfl) rfl
theorem q3465 : (Jvm.Cond.code ({ cls := "GangColumnsModel", name := "rule", desc := "(II)I" } : Jvm.MethodName) prog_33_method_33_code (4 : Nat) (Option.some Jvm.ClassFile.FieldType.int)) ∈ lw_all := lw_g (lw_at lw_m14 228 rfl) rfl
theorem q3466 : (Jvm.Cond.methodLink "GangColumnsModel" (159 : Nat) ({ cls := "GangColumnsModel", name := "isRule", desc := "(II)Z" } : Jvm.MethodName)) ∈ lw_all := lw_g (lw_at lw_m14 229 rfl) rfl
theorem q3467 : (Jvm.Cond.static ({ cls := "GangColumnsModel", name := "isRule", desc := "(II)Z" } : Jvm.MethodName)) ∈ lw_all := lw_g (lw_at lw_m14 230 rfl) rfl
theorem q3468 : (Jvm.Cond.code ({ cls := "GangColumnsModel", name := "isRule", desc := "(II)Z" } : Jvm.MethodName) prog_33_method_32_code (2 : Nat) (Option.some Jvm.ClassFile.FieldType.boolean)) ∈ lw_all := lw_g (lw_at lw_m14 231 rfl) rfl
theorem q3469 : (Jvm.Cond.constantLong "GangColumnsModel" (155 : Nat) (4 : Int64)) ∈ lw_all := lw_g (lw_at lw_m14 232 rfl) rfl
theorem q3470 : (Jvm.Cond.constantLong "GangColumnsModel" (157 : Nat) (80 : Int64)) ∈ lw_all := lw_g (lw_at lw_m14 233 rfl) rfl
theorem q3471 : (Jvm.Cond.methodLink "GangColumnsLaw" (35 : Nat) ({ cls := "GangColumnsModel", name := "used", desc := "(I)J" } : Jvm.MethodName)) ∈ lw_all := lw_g (lw_at lw_m14 234 rfl) rfl
theorem q3472 : (Jvm.Cond.instanceMethod ({ cls := "GangColumnsModel", name := "used", desc := "(I)J" } : Jvm.MethodName)) ∈ lw_all := lw_g (lw_at lw_m14 235 rfl) rfl
theorem q3473 : (Jvm.Cond.selects "GangColumnsModel" ({ cls := "GangColumnsModel", name := "used", desc := "(I)J" } : Jvm.MethodName) ({ cls := "GangColumnsModel", name := "used", desc := "(I)J" } : Jvm.MethodName)) ∈ lw_all := lw_g (lw_at lw_m14 236 rfl) rfl
theorem q3474 : (Jvm.Cond.code ({ cls := "GangColumnsModel", name := "used", desc := "(I)J" } : Jvm.MethodName) prog_33_method_34_code (2 : Nat) (Option.some Jvm.ClassFile.FieldType.long)) ∈ lw_all := lw_g (lw_at lw_m14 237 rfl) rfl
theorem q3475 : (Jvm.Cond.constantLong "GangColumnsModel" (162 : Nat) (-1 : Int64)) ∈ lw_all := lw_g (lw_at lw_m14 238 rfl) rfl
theorem q3476 : (Jvm.Cond.methodLink "GangColumnsLaw" (39 : Nat) ({ cls := "GangColumnsModel", name := "feed", desc := "(I)I" } : Jvm.MethodName)) ∈ lw_all := lw_g (lw_at lw_m14 239 rfl) rfl
theorem q3477 : (Jvm.Cond.instanceMethod ({ cls := "GangColumnsModel", name := "feed", desc := "(I)I" } : Jvm.MethodName)) ∈ lw_all := lw_g (lw_at lw_m15 0 rfl) rfl
theorem q3478 : (Jvm.Cond.selects "GangColumnsModel" ({ cls := "GangColumnsModel", name := "feed", desc := "(I)I" } : Jvm.MethodName) ({ cls := "GangColumnsModel", name := "feed", desc := "(I)I" } : Jvm.MethodName)) ∈ lw_all := lw_g (lw_at lw_m15 1 rfl) rfl
theorem q3479 : (Jvm.Cond.code ({ cls := "GangColumnsModel", name := "feed", desc := "(I)I" } : Jvm.MethodName) prog_33_method_35_code (2 : Nat) (Option.some Jvm.ClassFile.FieldType.int)) ∈ lw_all := lw_g (lw_at lw_m15 2 rfl) rfl
theorem q3480 : (Jvm.Cond.constantLong "GangColumnsModel" (164 : Nat) (32 : Int64)) ∈ lw_all := lw_g (lw_at lw_m15 3 rfl) rfl
theorem q3481 : (Jvm.Cond.constantLong "GangColumnsModel" (166 : Nat) (126 : Int64)) ∈ lw_all := lw_g (lw_at lw_m15 4 rfl) rfl
theorem q3482 : (Jvm.Cond.methodLink "GangColumnsLaw" (44 : Nat) ({ cls := "GangColumnsModel", name := "job", desc := "(IIII)I" } : Jvm.MethodName)) ∈ lw_all := lw_g (lw_at lw_m15 5 rfl) rfl
theorem q3483 : (Jvm.Cond.instanceMethod ({ cls := "GangColumnsModel", name := "job", desc := "(IIII)I" } : Jvm.MethodName)) ∈ lw_all := lw_g (lw_at lw_m15 6 rfl) rfl
theorem q3484 : (Jvm.Cond.selects "GangColumnsModel" ({ cls := "GangColumnsModel", name := "job", desc := "(IIII)I" } : Jvm.MethodName) ({ cls := "GangColumnsModel", name := "job", desc := "(IIII)I" } : Jvm.MethodName)) ∈ lw_all := lw_g (lw_at lw_m15 7 rfl) rfl
theorem q3485 : (Jvm.Cond.code ({ cls := "GangColumnsModel", name := "job", desc := "(IIII)I" } : Jvm.MethodName) prog_33_method_42_code (6 : Nat) (Option.some Jvm.ClassFile.FieldType.int)) ∈ lw_all := lw_g (lw_at lw_m15 8 rfl) rfl
theorem q3486 : (Jvm.Cond.constantLong "GangColumnsModel" (196 : Nat) (9 : Int64)) ∈ lw_all := lw_g (lw_at lw_m15 9 rfl) rfl
theorem q3487 : (Jvm.Cond.constantLong "GangColumnsModel" (198 : Nat) (150 : Int64)) ∈ lw_all := lw_g (lw_at lw_m15 10 rfl) rfl
theorem q3488 : (Jvm.Cond.methodLink "GangColumnsModel" (200 : Nat) ({ cls := "GangColumnsModel", name := "isJob", desc := "(I)Z" } : Jvm.MethodName)) ∈ lw_all := lw_g (lw_at lw_m15 11 rfl) rfl
theorem q3489 : (Jvm.Cond.privateMethod ({ cls := "GangColumnsModel", name := "isJob", desc := "(I)Z" } : Jvm.MethodName)) ∈ lw_tbl := lw_at lw_m15 12 rfl
theorem q3490 : (Jvm.Cond.instanceMethod ({ cls := "GangColumnsModel", name := "isJob", desc := "(I)Z" } : Jvm.MethodName)) ∈ lw_all := lw_g (lw_at lw_m15 13 rfl) rfl
theorem q3491 : (Jvm.Cond.code ({ cls := "GangColumnsModel", name := "isJob", desc := "(I)Z" } : Jvm.MethodName) prog_33_method_6_code (2 : Nat) (Option.some Jvm.ClassFile.FieldType.boolean)) ∈ lw_all := lw_g (lw_at lw_m15 14 rfl) rfl
theorem q3492 : (Jvm.Cond.methodLink "GangColumnsModel" (83 : Nat) ({ cls := "GangColumnsModel", name := "at", desc := "(II)I" } : Jvm.MethodName)) ∈ lw_all := lw_g (lw_at lw_m15 15 rfl) rfl
theorem q3493 : (Jvm.Cond.privateMethod ({ cls := "GangColumnsModel", name := "at", desc := "(II)I" } : Jvm.MethodName)) ∈ lw_tbl := lw_at lw_m15 16 rfl
theorem q3494 : (Jvm.Cond.instanceMethod ({ cls := "GangColumnsModel", name := "at", desc := "(II)I" } : Jvm.MethodName)) ∈ lw_all := lw_g (lw_at lw_m15 17 rfl) rfl
theorem q3495 : (Jvm.Cond.code ({ cls := "GangColumnsModel", name := "at", desc := "(II)I" } : Jvm.MethodName) prog_33_method_7_code (3 : Nat) (Option.some Jvm.ClassFile.FieldType.int)) ∈ lw_all := lw_g (lw_at lw_m15 18 rfl) rfl
theorem q3496 : (Jvm.Cond.methodLink "GangColumnsModel" (203 : Nat) ({ cls := "GangColumnsModel", name := "readArms", desc := "()I" } : Jvm.MethodName)) ∈ lw_all := lw_g (lw_at lw_m15 19 rfl) rfl
theorem q3497 : (Jvm.Cond.privateMethod ({ cls := "GangColumnsModel", name := "readArms", desc := "()I" } : Jvm.MethodName)) ∈ lw_tbl := lw_at lw_m15 20 rfl
theorem q3498 : (Jvm.Cond.instanceMethod ({ cls := "GangColumnsModel", name := "readArms", desc := "()I" } : Jvm.MethodName)) ∈ lw_all := lw_g (lw_at lw_m15 21 rfl) rfl
theorem q3499 : (Jvm.Cond.code ({ cls := "GangColumnsModel", name := "readArms", desc := "()I" } : Jvm.MethodName) prog_33_method_39_code (5 : Nat) (Option.some Jvm.ClassFile.FieldType.int)) ∈ lw_all := lw_g (lw_at lw_m15 22 rfl) rfl
theorem q3500 : (Jvm.Cond.methodLink "GangColumnsModel" (182 : Nat) ({ cls := "GangColumnsModel", name := "number", desc := "(I)I" } : Jvm.MethodName)) ∈ lw_all := lw_g (lw_at lw_m15 23 rfl) rfl
theorem q3501 : (Jvm.Cond.privateMethod ({ cls := "GangColumnsModel", name := "number", desc := "(I)I" } : Jvm.MethodName)) ∈ lw_tbl := lw_at lw_m15 24 rfl
theorem q3502 : (Jvm.Cond.instanceMethod ({ cls := "GangColumnsModel", name := "number", desc := "(I)I" } : Jvm.MethodName)) ∈ lw_all := lw_g (lw_at lw_m15 25 rfl) rfl
theorem q3503 : (Jvm.Cond.code ({ cls := "GangColumnsModel", name := "number", desc := "(I)I" } : Jvm.MethodName) prog_33_method_37_code (4 : Nat) (Option.some Jvm.ClassFile.FieldType.int)) ∈ lw_all := lw_g (lw_at lw_m15 26 rfl) rfl
theorem q3504 : (Jvm.Cond.methodLink "GangColumnsModel" (178 : Nat) ({ cls := "GangColumnsModel", name := "isFigure", desc := "()Z" } : Jvm.MethodName)) ∈ lw_all := lw_g (lw_at lw_m15 27 rfl) rfl
theorem q3505 : (Jvm.Cond.privateMethod ({ cls := "GangColumnsModel", name := "isFigure", desc := "()Z" } : Jvm.MethodName)) ∈ lw_tbl := lw_at lw_m15 28 rfl
theorem q3506 : (Jvm.Cond.instanceMethod ({ cls := "GangColumnsModel", name := "isFigure", desc := "()Z" } : Jvm.MethodName)) ∈ lw_all := lw_g (lw_at lw_m15 29 rfl) rfl
theorem q3507 : (Jvm.Cond.code ({ cls := "GangColumnsModel", name := "isFigure", desc := "()Z" } : Jvm.MethodName) prog_33_method_36_code (1 : Nat) (Option.some Jvm.ClassFile.FieldType.boolean)) ∈ lw_all := lw_g (lw_at lw_m15 30 rfl) rfl
theorem q3508 : (Jvm.Cond.constantLong "GangColumnsModel" (174 : Nat) (48 : Int64)) ∈ lw_all := lw_g (lw_at lw_m15 31 rfl) rfl
theorem q3509 : (Jvm.Cond.constantLong "GangColumnsModel" (176 : Nat) (57 : Int64)) ∈ lw_all := lw_g (lw_at lw_m15 32 rfl) rfl
theorem q3510 : (Jvm.Cond.methodLink "GangColumnsModel" (185 : Nat) ({ cls := "GangColumnsModel", name := "takesSign", desc := "(I)Z" } : Jvm.MethodName)) ∈ lw_all := lw_g (lw_at lw_m15 33 rfl) rfl
theorem q3511 : (Jvm.Cond.privateMethod ({ cls := "GangColumnsModel", name := "takesSign", desc := "(I)Z" } : Jvm.MethodName)) ∈ lw_tbl := lw_at lw_m15 34 rfl
theorem q3512 : (Jvm.Cond.instanceMethod ({ cls := "GangColumnsModel", name := "takesSign", desc := "(I)Z" } : Jvm.MethodName)) ∈ lw_all := lw_g (lw_at lw_m15 35 rfl) rfl
theorem q3513 : (Jvm.Cond.code ({ cls := "GangColumnsModel", name := "takesSign", desc := "(I)Z" } : Jvm.MethodName) prog_33_method_38_code (2 : Nat) (Option.some Jvm.ClassFile.FieldType.boolean)) ∈ lw_all := lw_g (lw_at lw_m15 36 rfl) rfl
theorem q3514 : (Jvm.Cond.methodLink "GangColumnsModel" (207 : Nat) ({ cls := "GangColumnsModel", name := "comes", desc := "(IIII)I" } : Jvm.MethodName)) ∈ lw_all := lw_g (lw_at lw_m15 37 rfl) rfl
theorem q3515 : (Jvm.Cond.privateMethod ({ cls := "GangColumnsModel", name := "comes", desc := "(IIII)I" } : Jvm.MethodName)) ∈ lw_tbl := lw_at lw_m15 38 rfl
theorem q3516 : (Jvm.Cond.instanceMethod ({ cls := "GangColumnsModel", name := "comes", desc := "(IIII)I" } : Jvm.MethodName)) ∈ lw_all := lw_g (lw_at lw_m15 39 rfl) rfl
theorem q3517 : (Jvm.Cond.code ({ cls := "GangColumnsModel", name := "comes", desc := "(IIII)I" } : Jvm.MethodName) prog_33_method_41_code (7 : Nat) (Option.some Jvm.ClassFile.FieldType.int)) ∈ lw_all := lw_g (lw_at lw_m15 40 rfl) rfl
theorem q3518 : (Jvm.Cond.methodLink "GangColumnsModel" (188 : Nat) ({ cls := "GangColumnsModel", name := "sets", desc := "(III)V" } : Jvm.MethodName)) ∈ lw_all := lw_g (lw_at lw_m15 41 rfl) rfl
theorem q3519 : (Jvm.Cond.privateMethod ({ cls := "GangColumnsModel", name := "sets", desc := "(III)V" } : Jvm.MethodName)) ∈ lw_tbl := lw_at lw_m15 42 rfl
theorem q3520 : (Jvm.Cond.instanceMethod ({ cls := "GangColumnsModel", name := "sets", desc := "(III)V" } : Jvm.MethodName)) ∈ lw_all := lw_g (lw_at lw_m15 43 rfl) rfl
theorem q3521 : (Jvm.Cond.code ({ cls := "GangColumnsModel", name := "sets", desc := "(III)V" } : Jvm.MethodName) prog_33_method_8_code (4 : Nat) (Option.none : Option Jvm.ClassFile.FieldType)) ∈ lw_all := lw_g (lw_at lw_m15 44 rfl) rfl
theorem q3522 : (Jvm.Cond.methodLink "GangColumnsModel" (192 : Nat) ({ cls := "GangColumnsModel", name := "happens", desc := "(II)V" } : Jvm.MethodName)) ∈ lw_all := lw_g (lw_at lw_m15 45 rfl) rfl
theorem q3523 : (Jvm.Cond.privateMethod ({ cls := "GangColumnsModel", name := "happens", desc := "(II)V" } : Jvm.MethodName)) ∈ lw_tbl := lw_at lw_m15 46 rfl
theorem q3524 : (Jvm.Cond.instanceMethod ({ cls := "GangColumnsModel", name := "happens", desc := "(II)V" } : Jvm.MethodName)) ∈ lw_all := lw_g (lw_at lw_m15 47 rfl) rfl
theorem q3525 : (Jvm.Cond.code ({ cls := "GangColumnsModel", name := "happens", desc := "(II)V" } : Jvm.MethodName) prog_33_method_40_code (4 : Nat) (Option.none : Option Jvm.ClassFile.FieldType)) ∈ lw_all := lw_g (lw_at lw_m15 48 rfl) rfl
theorem q3526 : (Jvm.Cond.methodLink "GangColumnsLaw" (48 : Nat) ({ cls := "GangColumnsModel", name := "off", desc := "(I)I" } : Jvm.MethodName)) ∈ lw_all := lw_g (lw_at lw_m15 49 rfl) rfl
theorem q3527 : (Jvm.Cond.instanceMethod ({ cls := "GangColumnsModel", name := "off", desc := "(I)I" } : Jvm.MethodName)) ∈ lw_all := lw_g (lw_at lw_m15 50 rfl) rfl
theorem q3528 : (Jvm.Cond.selects "GangColumnsModel" ({ cls := "GangColumnsModel", name := "off", desc := "(I)I" } : Jvm.MethodName) ({ cls := "GangColumnsModel", name := "off", desc := "(I)I" } : Jvm.MethodName)) ∈ lw_all := lw_g (lw_at lw_m15 51 rfl) rfl
theorem q3529 : (Jvm.Cond.code ({ cls := "GangColumnsModel", name := "off", desc := "(I)I" } : Jvm.MethodName) prog_33_method_44_code (2 : Nat) (Option.some Jvm.ClassFile.FieldType.int)) ∈ lw_all := lw_g (lw_at lw_m15 52 rfl) rfl
theorem q3530 : (Jvm.Cond.methodLink "GangColumnsModel" (214 : Nat) ({ cls := "GangColumnsModel", name := "offs", desc := "(I)I" } : Jvm.MethodName)) ∈ lw_all := lw_g (lw_at lw_m15 53 rfl) rfl
theorem q3531 : (Jvm.Cond.privateMethod ({ cls := "GangColumnsModel", name := "offs", desc := "(I)I" } : Jvm.MethodName)) ∈ lw_tbl := lw_at lw_m15 54 rfl
theorem q3532 : (Jvm.Cond.instanceMethod ({ cls := "GangColumnsModel", name := "offs", desc := "(I)I" } : Jvm.MethodName)) ∈ lw_all := lw_g (lw_at lw_m15 55 rfl) rfl
theorem q3533 : (Jvm.Cond.code ({ cls := "GangColumnsModel", name := "offs", desc := "(I)I" } : Jvm.MethodName) prog_33_method_43_code (4 : Nat) (Option.some Jvm.ClassFile.FieldType.int)) ∈ lw_all := lw_g (lw_at lw_m15 56 rfl) rfl
theorem q3534 : (Jvm.Cond.methodLink "GangColumnsModel" (98 : Nat) ({ cls := "GangColumnsModel", name := "holds", desc := "(II)Z" } : Jvm.MethodName)) ∈ lw_all := lw_g (lw_at lw_m15 57 rfl) rfl
theorem q3535 : (Jvm.Cond.privateMethod ({ cls := "GangColumnsModel", name := "holds", desc := "(II)Z" } : Jvm.MethodName)) ∈ lw_tbl := lw_at lw_m15 58 rfl
theorem q3536 : (Jvm.Cond.instanceMethod ({ cls := "GangColumnsModel", name := "holds", desc := "(II)Z" } : Jvm.MethodName)) ∈ lw_all := lw_g (lw_at lw_m15 59 rfl) rfl
theorem q3537 : (Jvm.Cond.code ({ cls := "GangColumnsModel", name := "holds", desc := "(II)Z" } : Jvm.MethodName) prog_33_method_12_code (3 : Nat) (Option.some Jvm.ClassFile.FieldType.boolean)) ∈ lw_all := lw_g (lw_at lw_m15 60 rfl) rfl
theorem q3538 : (Jvm.Cond.methodLink "GangColumnsModel" (211 : Nat) ({ cls := "GangColumnsModel", name := "isWaiting", desc := "(I)Z" } : Jvm.MethodName)) ∈ lw_all := lw_g (lw_at lw_m15 61 rfl) rfl
theorem q3539 : (Jvm.Cond.privateMethod ({ cls := "GangColumnsModel", name := "isWaiting", desc := "(I)Z" } : Jvm.MethodName)) ∈ lw_tbl := lw_at lw_m15 62 rfl
theorem q3540 : (Jvm.Cond.instanceMethod ({ cls := "GangColumnsModel", name := "isWaiting", desc := "(I)Z" } : Jvm.MethodName)) ∈ lw_all := lw_g (lw_at lw_m15 63 rfl) rfl
theorem q3541 : (Jvm.Cond.code ({ cls := "GangColumnsModel", name := "isWaiting", desc := "(I)Z" } : Jvm.MethodName) prog_33_method_9_code (2 : Nat) (Option.some Jvm.ClassFile.FieldType.boolean)) ∈ lw_all := lw_g (lw_at lw_m15 64 rfl) rfl
theorem q3542 : (Jvm.Cond.methodLink "GangColumnsLaw" (52 : Nat) ({ cls := "GangColumnsModel", name := "of", desc := "(II)I" } : Jvm.MethodName)) ∈ lw_all := lw_g (lw_at lw_m15 65 rfl) rfl
theorem q3543 : (Jvm.Cond.instanceMethod ({ cls := "GangColumnsModel", name := "of", desc := "(II)I" } : Jvm.MethodName)) ∈ lw_all := lw_g (lw_at lw_m15 66 rfl) rfl
theorem q3544 : (Jvm.Cond.selects "GangColumnsModel" ({ cls := "GangColumnsModel", name := "of", desc := "(II)I" } : Jvm.MethodName) ({ cls := "GangColumnsModel", name := "of", desc := "(II)I" } : Jvm.MethodName)) ∈ lw_all := lw_g (lw_at lw_m15 67 rfl) rfl
theorem q3545 : (Jvm.Cond.code ({ cls := "GangColumnsModel", name := "of", desc := "(II)I" } : Jvm.MethodName) prog_33_method_46_code (3 : Nat) (Option.some Jvm.ClassFile.FieldType.int)) ∈ lw_all := lw_g (lw_at lw_m15 68 rfl) rfl
theorem q3546 : (Jvm.Cond.methodLink "GangColumnsModel" (217 : Nat) ({ cls := "GangColumnsModel", name := "told", desc := "(I)I" } : Jvm.MethodName)) ∈ lw_all := lw_g (lw_at lw_m15 69 rfl) rfl
theorem q3547 : (Jvm.Cond.static ({ cls := "GangColumnsModel", name := "told", desc := "(I)I" } : Jvm.MethodName)) ∈ lw_all := lw_g (lw_at lw_m15 70 rfl) rfl
theorem q3548 : (Jvm.Cond.code ({ cls := "GangColumnsModel", name := "told", desc := "(I)I" } : Jvm.MethodName) prog_33_method_10_code (1 : Nat) (Option.some Jvm.ClassFile.FieldType.int)) ∈ lw_all := lw_g (lw_at lw_m15 71 rfl) rfl
theorem q3549 : (Jvm.Cond.methodLink "GangColumnsModel" (220 : Nat) ({ cls := "GangColumnsModel", name := "columnsOf", desc := "(I)I" } : Jvm.MethodName)) ∈ lw_all := lw_g (lw_at lw_m15 72 rfl) rfl
theorem q3550 : (Jvm.Cond.privateMethod ({ cls := "GangColumnsModel", name := "columnsOf", desc := "(I)I" } : Jvm.MethodName)) ∈ lw_tbl := lw_at lw_m15 73 rfl
theorem q3551 : (Jvm.Cond.instanceMethod ({ cls := "GangColumnsModel", name := "columnsOf", desc := "(I)I" } : Jvm.MethodName)) ∈ lw_all := lw_g (lw_at lw_m15 74 rfl) rfl
theorem q3552 : (Jvm.Cond.code ({ cls := "GangColumnsModel", name := "columnsOf", desc := "(I)I" } : Jvm.MethodName) prog_33_method_45_code (4 : Nat) (Option.some Jvm.ClassFile.FieldType.int)) ∈ lw_all := lw_g (lw_at lw_m15 75 rfl) rfl
theorem q3553 : (Jvm.Cond.methodLink "GangColumnsLaw" (57 : Nat) ({ cls := "GangColumnsModel", name := "arm", desc := "(III)I" } : Jvm.MethodName)) ∈ lw_all := lw_g (lw_at lw_m15 76 rfl) rfl
theorem q3554 : (Jvm.Cond.instanceMethod ({ cls := "GangColumnsModel", name := "arm", desc := "(III)I" } : Jvm.MethodName)) ∈ lw_all := lw_g (lw_at lw_m15 77 rfl) rfl
theorem q3555 : (Jvm.Cond.selects "GangColumnsModel" ({ cls := "GangColumnsModel", name := "arm", desc := "(III)I" } : Jvm.MethodName) ({ cls := "GangColumnsModel", name := "arm", desc := "(III)I" } : Jvm.MethodName)) ∈ lw_all := lw_g (lw_at lw_m15 78 rfl) rfl
theorem q3556 : (Jvm.Cond.code ({ cls := "GangColumnsModel", name := "arm", desc := "(III)I" } : Jvm.MethodName) prog_33_method_47_code (4 : Nat) (Option.some Jvm.ClassFile.FieldType.int)) ∈ lw_all := lw_g (lw_at lw_m15 79 rfl) rfl
theorem q3557 : (Jvm.Cond.methodLink "GangColumnsModel" (223 : Nat) ({ cls := "GangColumnsModel", name := "lasts", desc := "(II)I" } : Jvm.MethodName)) ∈ lw_all := lw_g (lw_at lw_m15 80 rfl) rfl
theorem q3558 : (Jvm.Cond.privateMethod ({ cls := "GangColumnsModel", name := "lasts", desc := "(II)I" } : Jvm.MethodName)) ∈ lw_tbl := lw_at lw_m15 81 rfl
theorem q3559 : (Jvm.Cond.instanceMethod ({ cls := "GangColumnsModel", name := "lasts", desc := "(II)I" } : Jvm.MethodName)) ∈ lw_all := lw_g (lw_at lw_m15 82 rfl) rfl
theorem q3560 : (Jvm.Cond.code ({ cls := "GangColumnsModel", name := "lasts", desc := "(II)I" } : Jvm.MethodName) prog_33_method_11_code (3 : Nat) (Option.some Jvm.ClassFile.FieldType.int)) ∈ lw_all := lw_g (lw_at lw_m15 83 rfl) rfl
theorem q3561 : (Jvm.Cond.methodLink "GangColumnsModel" (87 : Nat) ({ cls := "java/lang/Math", name := "max", desc := "(II)I" } : Jvm.MethodName)) ∈ lw_all := lw_g (lw_at lw_m15 84 rfl) rfl
theorem q3562 : (Jvm.Cond.methodLink "GangColumnsLaw" (61 : Nat) ({ cls := "GangColumnsModel", name := "line", desc := "(I)I" } : Jvm.MethodName)) ∈ lw_all := lw_g (lw_at lw_m15 85 rfl) rfl
theorem q3563 : (Jvm.Cond.instanceMethod ({ cls := "GangColumnsModel", name := "line", desc := "(I)I" } : Jvm.MethodName)) ∈ lw_all := lw_g (lw_at lw_m15 86 rfl) rfl
theorem q3564 : (Jvm.Cond.selects "GangColumnsModel" ({ cls := "GangColumnsModel", name := "line", desc := "(I)I" } : Jvm.MethodName) ({ cls := "GangColumnsModel", name := "line", desc := "(I)I" } : Jvm.MethodName)) ∈ lw_all := lw_g (lw_at lw_m15 87 rfl) rfl
theorem q3565 : (Jvm.Cond.code ({ cls := "GangColumnsModel", name := "line", desc := "(I)I" } : Jvm.MethodName) prog_33_method_51_code (3 : Nat) (Option.some Jvm.ClassFile.FieldType.int)) ∈ lw_all := lw_g (lw_at lw_m15 88 rfl) rfl
theorem q3566 : (Jvm.Cond.methodLink "GangColumnsModel" (232 : Nat) ({ cls := "GangColumnsModel", name := "linesUp", desc := "()I" } : Jvm.MethodName)) ∈ lw_all := lw_g (lw_at lw_m15 89 rfl) rfl
theorem q3567 : (Jvm.Cond.privateMethod ({ cls := "GangColumnsModel", name := "linesUp", desc := "()I" } : Jvm.MethodName)) ∈ lw_tbl := lw_at lw_m15 90 rfl
theorem q3568 : (Jvm.Cond.instanceMethod ({ cls := "GangColumnsModel", name := "linesUp", desc := "()I" } : Jvm.MethodName)) ∈ lw_all := lw_g (lw_at lw_m15 91 rfl) rfl
theorem q3569 : (Jvm.Cond.code ({ cls := "GangColumnsModel", name := "linesUp", desc := "()I" } : Jvm.MethodName) prog_33_method_50_code (4 : Nat) (Option.some Jvm.ClassFile.FieldType.int)) ∈ lw_all := lw_g (lw_at lw_m15 92 rfl) rfl
theorem q3570 : (Jvm.Cond.methodLink "GangColumnsModel" (226 : Nat) ({ cls := "GangColumnsModel", name := "isInLine", desc := "(I)Z" } : Jvm.MethodName)) ∈ lw_all := lw_g (lw_at lw_m15 93 rfl) rfl
theorem q3571 : (Jvm.Cond.privateMethod ({ cls := "GangColumnsModel", name := "isInLine", desc := "(I)Z" } : Jvm.MethodName)) ∈ lw_tbl := lw_at lw_m15 94 rfl
theorem q3572 : (Jvm.Cond.instanceMethod ({ cls := "GangColumnsModel", name := "isInLine", desc := "(I)Z" } : Jvm.MethodName)) ∈ lw_all := lw_g (lw_at lw_m15 95 rfl) rfl
theorem q3573 : (Jvm.Cond.code ({ cls := "GangColumnsModel", name := "isInLine", desc := "(I)Z" } : Jvm.MethodName) prog_33_method_48_code (3 : Nat) (Option.some Jvm.ClassFile.FieldType.boolean)) ∈ lw_all := lw_g (lw_at lw_m15 96 rfl) rfl
theorem q3574 : (Jvm.Cond.methodLink "GangColumnsModel" (229 : Nat) ({ cls := "GangColumnsModel", name := "isAhead", desc := "(II)Z" } : Jvm.MethodName)) ∈ lw_all := lw_g (lw_at lw_m15 97 rfl) rfl
theorem q3575 : (Jvm.Cond.privateMethod ({ cls := "GangColumnsModel", name := "isAhead", desc := "(II)Z" } : Jvm.MethodName)) ∈ lw_tbl := lw_at lw_m15 98 rfl
theorem q3576 : (Jvm.Cond.instanceMethod ({ cls := "GangColumnsModel", name := "isAhead", desc := "(II)Z" } : Jvm.MethodName)) ∈ lw_all := lw_g (lw_at lw_m15 99 rfl) rfl
theorem q3577 : (Jvm.Cond.code ({ cls := "GangColumnsModel", name := "isAhead", desc := "(II)Z" } : Jvm.MethodName) prog_33_method_49_code (4 : Nat) (Option.some Jvm.ClassFile.FieldType.boolean)) ∈ lw_all := lw_g (lw_at lw_m15 100 rfl) rfl
theorem q3578 : (Jvm.Cond.methodLink "GangColumnsLaw" (65 : Nat) ({ cls := "GangColumnsModel", name := "rank", desc := "(II)I" } : Jvm.MethodName)) ∈ lw_all := lw_g (lw_at lw_m15 101 rfl) rfl
theorem q3579 : (Jvm.Cond.instanceMethod ({ cls := "GangColumnsModel", name := "rank", desc := "(II)I" } : Jvm.MethodName)) ∈ lw_all := lw_g (lw_at lw_m15 102 rfl) rfl
theorem q3580 : (Jvm.Cond.selects "GangColumnsModel" ({ cls := "GangColumnsModel", name := "rank", desc := "(II)I" } : Jvm.MethodName) ({ cls := "GangColumnsModel", name := "rank", desc := "(II)I" } : Jvm.MethodName)) ∈ lw_all := lw_g (lw_at lw_m15 103 rfl) rfl
theorem q3581 : (Jvm.Cond.code ({ cls := "GangColumnsModel", name := "rank", desc := "(II)I" } : Jvm.MethodName) prog_33_method_52_code (4 : Nat) (Option.some Jvm.ClassFile.FieldType.int)) ∈ lw_all := lw_g (lw_at lw_m15 104 rfl) rfl
theorem q3582 : (Jvm.Cond.methodLink "GangColumnsLaw" (69 : Nat) ({ cls := "GangColumnsModel", name := "hold", desc := "(II)I" } : Jvm.MethodName)) ∈ lw_all := lw_g (lw_at lw_m15 105 rfl) rfl
theorem q3583 : (Jvm.Cond.instanceMethod ({ cls := "GangColumnsModel", name := "hold", desc := "(II)I" } : Jvm.MethodName)) ∈ lw_all := lw_g (lw_at lw_m15 106 rfl) rfl
theorem q3584 : (Jvm.Cond.selects "GangColumnsModel" ({ cls := "GangColumnsModel", name := "hold", desc := "(II)I" } : Jvm.MethodName) ({ cls := "GangColumnsModel", name := "hold", desc := "(II)I" } : Jvm.MethodName)) ∈ lw_all := lw_g (lw_at lw_m15 107 rfl) rfl
theorem q3585 : (Jvm.Cond.code ({ cls := "GangColumnsModel", name := "hold", desc := "(II)I" } : Jvm.MethodName) prog_33_method_53_code (4 : Nat) (Option.some Jvm.ClassFile.FieldType.int)) ∈ lw_all := lw_g (lw_at lw_m15 108 rfl) rfl
theorem q3586 : (Jvm.Cond.methodLink "GangColumnsLaw" (73 : Nat) ({ cls := "GangColumnsModel", name := "text", desc := "(II)I" } : Jvm.MethodName)) ∈ lw_all := lw_g (lw_at lw_m15 109 rfl) rfl
theorem q3587 : (Jvm.Cond.instanceMethod ({ cls := "GangColumnsModel", name := "text", desc := "(II)I" } : Jvm.MethodName)) ∈ lw_all := lw_g (lw_at lw_m15 110 rfl) rfl
theorem q3588 : (Jvm.Cond.selects "GangColumnsModel" ({ cls := "GangColumnsModel", name := "text", desc := "(II)I" } : Jvm.MethodName) ({ cls := "GangColumnsModel", name := "text", desc := "(II)I" } : Jvm.MethodName)) ∈ lw_all := lw_g (lw_at lw_m15 111 rfl) rfl
theorem q3589 : (Jvm.Cond.code ({ cls := "GangColumnsModel", name := "text", desc := "(II)I" } : Jvm.MethodName) prog_33_method_56_code (4 : Nat) (Option.some Jvm.ClassFile.FieldType.int)) ∈ lw_all := lw_g (lw_at lw_m15 112 rfl) rfl
theorem q3590 : (Jvm.Cond.methodLink "GangColumnsModel" (242 : Nat) ({ cls := "GangColumnsModel", name := "writesNumber", desc := "(I)V" } : Jvm.MethodName)) ∈ lw_all := lw_g (lw_at lw_m15 113 rfl) rfl
theorem q3591 : (Jvm.Cond.privateMethod ({ cls := "GangColumnsModel", name := "writesNumber", desc := "(I)V" } : Jvm.MethodName)) ∈ lw_tbl := lw_at lw_m15 114 rfl
theorem q3592 : (Jvm.Cond.instanceMethod ({ cls := "GangColumnsModel", name := "writesNumber", desc := "(I)V" } : Jvm.MethodName)) ∈ lw_all := lw_g (lw_at lw_m15 115 rfl) rfl
theorem q3593 : (Jvm.Cond.code ({ cls := "GangColumnsModel", name := "writesNumber", desc := "(I)V" } : Jvm.MethodName) prog_33_method_55_code (3 : Nat) (Option.none : Option Jvm.ClassFile.FieldType)) ∈ lw_all := lw_g (lw_at lw_m15 116 rfl) rfl
theorem q3594 : (Jvm.Cond.methodLink "GangColumnsModel" (238 : Nat) ({ cls := "GangColumnsModel", name := "writes", desc := "(I)V" } : Jvm.MethodName)) ∈ lw_all := lw_g (lw_at lw_m15 117 rfl) rfl
theorem q3595 : (Jvm.Cond.privateMethod ({ cls := "GangColumnsModel", name := "writes", desc := "(I)V" } : Jvm.MethodName)) ∈ lw_tbl := lw_at lw_m15 118 rfl
theorem q3596 : (Jvm.Cond.instanceMethod ({ cls := "GangColumnsModel", name := "writes", desc := "(I)V" } : Jvm.MethodName)) ∈ lw_all := lw_g (lw_at lw_m15 119 rfl) rfl
theorem q3597 : (Jvm.Cond.code ({ cls := "GangColumnsModel", name := "writes", desc := "(I)V" } : Jvm.MethodName) prog_33_method_54_code (2 : Nat) (Option.none : Option Jvm.ClassFile.FieldType)) ∈ lw_all := lw_g (lw_at lw_m15 120 rfl) rfl
theorem q3598 : (Jvm.Cond.methodLink "GangColumnsLaw" (77 : Nat) ({ cls := "GangColumnsModel", name := "keep", desc := "(IIII)I" } : Jvm.MethodName)) ∈ lw_all := lw_g (lw_at lw_m15 121 rfl) rfl
theorem q3599 : (Jvm.Cond.instanceMethod ({ cls := "GangColumnsModel", name := "keep", desc := "(IIII)I" } : Jvm.MethodName)) ∈ lw_all := lw_g (lw_at lw_m15 122 rfl) rfl
theorem q3600 : (Jvm.Cond.selects "GangColumnsModel" ({ cls := "GangColumnsModel", name := "keep", desc := "(IIII)I" } : Jvm.MethodName) ({ cls := "GangColumnsModel", name := "keep", desc := "(IIII)I" } : Jvm.MethodName)) ∈ lw_all := lw_g (lw_at lw_m15 123 rfl) rfl
theorem q3601 : (Jvm.Cond.code ({ cls := "GangColumnsModel", name := "keep", desc := "(IIII)I" } : Jvm.MethodName) prog_33_method_62_code (5 : Nat) (Option.some Jvm.ClassFile.FieldType.int)) ∈ lw_all := lw_g (lw_at lw_m15 124 rfl) rfl
theorem q3602 : (Jvm.Cond.methodLink "GangColumnsModel" (250 : Nat) ({ cls := "GangColumnsModel", name := "isSpanTold", desc := "(IJJI)Z" } : Jvm.MethodName)) ∈ lw_all := lw_g (lw_at lw_m15 125 rfl) rfl
theorem q3603 : (Jvm.Cond.privateMethod ({ cls := "GangColumnsModel", name := "isSpanTold", desc := "(IJJI)Z" } : Jvm.MethodName)) ∈ lw_tbl := lw_at lw_m15 126 rfl
theorem q3604 : (Jvm.Cond.instanceMethod ({ cls := "GangColumnsModel", name := "isSpanTold", desc := "(IJJI)Z" } : Jvm.MethodName)) ∈ lw_all := lw_g (lw_at lw_m15 127 rfl) rfl
theorem q3605 : (Jvm.Cond.code ({ cls := "GangColumnsModel", name := "isSpanTold", desc := "(IJJI)Z" } : Jvm.MethodName) prog_33_method_59_code (7 : Nat) (Option.some Jvm.ClassFile.FieldType.boolean)) ∈ lw_all := lw_g (lw_at lw_m15 128 rfl) rfl
theorem q3606 : (Jvm.Cond.methodLink "GangColumnsModel" (247 : Nat) ({ cls := "GangColumnsModel", name := "areColumns", desc := "(I)Z" } : Jvm.MethodName)) ∈ lw_all := lw_g (lw_at lw_m15 129 rfl) rfl
theorem q3607 : (Jvm.Cond.privateMethod ({ cls := "GangColumnsModel", name := "areColumns", desc := "(I)Z" } : Jvm.MethodName)) ∈ lw_tbl := lw_at lw_m15 130 rfl
theorem q3608 : (Jvm.Cond.instanceMethod ({ cls := "GangColumnsModel", name := "areColumns", desc := "(I)Z" } : Jvm.MethodName)) ∈ lw_all := lw_g (lw_at lw_m15 131 rfl) rfl
theorem q3609 : (Jvm.Cond.code ({ cls := "GangColumnsModel", name := "areColumns", desc := "(I)Z" } : Jvm.MethodName) prog_33_method_58_code (2 : Nat) (Option.some Jvm.ClassFile.FieldType.boolean)) ∈ lw_all := lw_g (lw_at lw_m15 132 rfl) rfl
theorem q3610 : (Jvm.Cond.constantLong "GangColumnsModel" (245 : Nat) (15 : Int64)) ∈ lw_all := lw_g (lw_at lw_m15 133 rfl) rfl
theorem q3611 : (Jvm.Cond.methodLink "GangColumnsModel" (254 : Nat) ({ cls := "GangColumnsModel", name := "spans", desc := "()I" } : Jvm.MethodName)) ∈ lw_all := lw_g (lw_at lw_m15 134 rfl) rfl
theorem q3612 : (Jvm.Cond.privateMethod ({ cls := "GangColumnsModel", name := "spans", desc := "()I" } : Jvm.MethodName)) ∈ lw_tbl := lw_at lw_m15 135 rfl
theorem q3613 : (Jvm.Cond.instanceMethod ({ cls := "GangColumnsModel", name := "spans", desc := "()I" } : Jvm.MethodName)) ∈ lw_all := lw_g (lw_at lw_m15 136 rfl) rfl
theorem q3614 : (Jvm.Cond.code ({ cls := "GangColumnsModel", name := "spans", desc := "()I" } : Jvm.MethodName) prog_33_method_57_code (3 : Nat) (Option.some Jvm.ClassFile.FieldType.int)) ∈ lw_all := lw_g (lw_at lw_m15 137 rfl) rfl
theorem q3615 : (Jvm.Cond.methodLink "GangColumnsModel" (111 : Nat) ({ cls := "GangColumnsModel", name := "isSpan", desc := "(I)Z" } : Jvm.MethodName)) ∈ lw_all := lw_g (lw_at lw_m15 138 rfl) rfl
theorem q3616 : (Jvm.Cond.privateMethod ({ cls := "GangColumnsModel", name := "isSpan", desc := "(I)Z" } : Jvm.MethodName)) ∈ lw_tbl := lw_at lw_m15 139 rfl
theorem q3617 : (Jvm.Cond.instanceMethod ({ cls := "GangColumnsModel", name := "isSpan", desc := "(I)Z" } : Jvm.MethodName)) ∈ lw_all := lw_g (lw_at lw_m15 140 rfl) rfl
theorem q3618 : (Jvm.Cond.code ({ cls := "GangColumnsModel", name := "isSpan", desc := "(I)Z" } : Jvm.MethodName) prog_33_method_18_code (2 : Nat) (Option.some Jvm.ClassFile.FieldType.boolean)) ∈ lw_all := lw_g (lw_at lw_m15 141 rfl) rfl
theorem q3619 : (Jvm.Cond.methodLink "GangColumnsModel" (95 : Nat) ({ cls := "GangColumnsModel", name := "spanAt", desc := "(II)I" } : Jvm.MethodName)) ∈ lw_all := lw_g (lw_at lw_m15 142 rfl) rfl
theorem q3620 : (Jvm.Cond.privateMethod ({ cls := "GangColumnsModel", name := "spanAt", desc := "(II)I" } : Jvm.MethodName)) ∈ lw_tbl := lw_at lw_m15 143 rfl
theorem q3621 : (Jvm.Cond.instanceMethod ({ cls := "GangColumnsModel", name := "spanAt", desc := "(II)I" } : Jvm.MethodName)) ∈ lw_all := lw_g (lw_at lw_m15 144 rfl) rfl
theorem q3622 : (Jvm.Cond.code ({ cls := "GangColumnsModel", name := "spanAt", desc := "(II)I" } : Jvm.MethodName) prog_33_method_17_code (3 : Nat) (Option.some Jvm.ClassFile.FieldType.int)) ∈ lw_all := lw_g (lw_at lw_m15 145 rfl) rfl
theorem q3623 : (Jvm.Cond.methodLink "GangColumnsModel" (92 : Nat) ({ cls := "GangColumnsModel", name := "bits", desc := "(II)I" } : Jvm.MethodName)) ∈ lw_all := lw_g (lw_at lw_m15 146 rfl) rfl
theorem q3624 : (Jvm.Cond.static ({ cls := "GangColumnsModel", name := "bits", desc := "(II)I" } : Jvm.MethodName)) ∈ lw_all := lw_g (lw_at lw_m15 147 rfl) rfl
theorem q3625 : (Jvm.Cond.code ({ cls := "GangColumnsModel", name := "bits", desc := "(II)I" } : Jvm.MethodName) prog_33_method_14_code (2 : Nat) (Option.some Jvm.ClassFile.FieldType.int)) ∈ lw_all := lw_g (lw_at lw_m15 148 rfl) rfl
theorem q3626 : (Jvm.Cond.methodLink "GangColumnsModel" (257 : Nat) ({ cls := "GangColumnsModel", name := "overlaps", desc := "(III)Z" } : Jvm.MethodName)) ∈ lw_all := lw_g (lw_at lw_m15 149 rfl) rfl
theorem q3627 : (Jvm.Cond.privateMethod ({ cls := "GangColumnsModel", name := "overlaps", desc := "(III)Z" } : Jvm.MethodName)) ∈ lw_tbl := lw_at lw_m15 150 rfl
theorem q3628 : (Jvm.Cond.instanceMethod ({ cls := "GangColumnsModel", name := "overlaps", desc := "(III)Z" } : Jvm.MethodName)) ∈ lw_all := lw_g (lw_at lw_m15 151 rfl) rfl
theorem q3629 : (Jvm.Cond.code ({ cls := "GangColumnsModel", name := "overlaps", desc := "(III)Z" } : Jvm.MethodName) prog_33_method_60_code (6 : Nat) (Option.some Jvm.ClassFile.FieldType.boolean)) ∈ lw_all := lw_g (lw_at lw_m15 152 rfl) rfl
theorem q3630 : (Jvm.Cond.methodLink "GangColumnsModel" (115 : Nat) ({ cls := "GangColumnsModel", name := "spanBits", desc := "(I)I" } : Jvm.MethodName)) ∈ lw_all := lw_g (lw_at lw_m15 153 rfl) rfl
theorem q3631 : (Jvm.Cond.privateMethod ({ cls := "GangColumnsModel", name := "spanBits", desc := "(I)I" } : Jvm.MethodName)) ∈ lw_tbl := lw_at lw_m15 154 rfl
theorem q3632 : (Jvm.Cond.instanceMethod ({ cls := "GangColumnsModel", name := "spanBits", desc := "(I)I" } : Jvm.MethodName)) ∈ lw_all := lw_g (lw_at lw_m15 155 rfl) rfl
theorem q3633 : (Jvm.Cond.code ({ cls := "GangColumnsModel", name := "spanBits", desc := "(I)I" } : Jvm.MethodName) prog_33_method_19_code (2 : Nat) (Option.some Jvm.ClassFile.FieldType.int)) ∈ lw_all := lw_g (lw_at lw_m15 156 rfl) rfl
theorem q3634 : (Jvm.Cond.methodLink "GangColumnsModel" (105 : Nat) ({ cls := "GangColumnsModel", name := "heldBits", desc := "(II)I" } : Jvm.MethodName)) ∈ lw_all := lw_g (lw_at lw_m15 157 rfl) rfl
theorem q3635 : (Jvm.Cond.privateMethod ({ cls := "GangColumnsModel", name := "heldBits", desc := "(II)I" } : Jvm.MethodName)) ∈ lw_tbl := lw_at lw_m15 158 rfl
theorem q3636 : (Jvm.Cond.instanceMethod ({ cls := "GangColumnsModel", name := "heldBits", desc := "(II)I" } : Jvm.MethodName)) ∈ lw_all := lw_g (lw_at lw_m15 159 rfl) rfl
theorem q3637 : (Jvm.Cond.code ({ cls := "GangColumnsModel", name := "heldBits", desc := "(II)I" } : Jvm.MethodName) prog_33_method_15_code (3 : Nat) (Option.some Jvm.ClassFile.FieldType.int)) ∈ lw_all := lw_g (lw_at lw_m15 160 rfl) rfl
theorem q3638 : (Jvm.Cond.methodLink "GangColumnsModel" (102 : Nat) ({ cls := "GangColumnsModel", name := "knownEnd", desc := "(II)I" } : Jvm.MethodName)) ∈ lw_all := lw_g (lw_at lw_m15 161 rfl) rfl
theorem q3639 : (Jvm.Cond.privateMethod ({ cls := "GangColumnsModel", name := "knownEnd", desc := "(II)I" } : Jvm.MethodName)) ∈ lw_tbl := lw_at lw_m15 162 rfl
theorem q3640 : (Jvm.Cond.instanceMethod ({ cls := "GangColumnsModel", name := "knownEnd", desc := "(II)I" } : Jvm.MethodName)) ∈ lw_all := lw_g (lw_at lw_m15 163 rfl) rfl
theorem q3641 : (Jvm.Cond.code ({ cls := "GangColumnsModel", name := "knownEnd", desc := "(II)I" } : Jvm.MethodName) prog_33_method_13_code (3 : Nat) (Option.some Jvm.ClassFile.FieldType.int)) ∈ lw_all := lw_g (lw_at lw_m15 164 rfl) rfl
theorem q3642 : (Jvm.Cond.methodLink "GangColumnsModel" (261 : Nat) ({ cls := "GangColumnsModel", name := "keeps", desc := "(IIII)I" } : Jvm.MethodName)) ∈ lw_all := lw_g (lw_at lw_m15 165 rfl) rfl
theorem q3643 : (Jvm.Cond.privateMethod ({ cls := "GangColumnsModel", name := "keeps", desc := "(IIII)I" } : Jvm.MethodName)) ∈ lw_tbl := lw_at lw_m15 166 rfl
theorem q3644 : (Jvm.Cond.instanceMethod ({ cls := "GangColumnsModel", name := "keeps", desc := "(IIII)I" } : Jvm.MethodName)) ∈ lw_all := lw_g (lw_at lw_m15 167 rfl) rfl
theorem q3645 : (Jvm.Cond.code ({ cls := "GangColumnsModel", name := "keeps", desc := "(IIII)I" } : Jvm.MethodName) prog_33_method_61_code (7 : Nat) (Option.some Jvm.ClassFile.FieldType.int)) ∈ lw_all := lw_g (lw_at lw_m15 168 rfl) rfl
theorem q3646 : (Jvm.Cond.methodLink "GangColumnsLaw" (82 : Nat) ({ cls := "GangColumnsModel", name := "every", desc := "(IIIIII)I" } : Jvm.MethodName)) ∈ lw_all := lw_g (lw_at lw_m15 169 rfl) rfl
theorem q3647 : (Jvm.Cond.instanceMethod ({ cls := "GangColumnsModel", name := "every", desc := "(IIIIII)I" } : Jvm.MethodName)) ∈ lw_all := lw_g (lw_at lw_m15 170 rfl) rfl
theorem q3648 : (Jvm.Cond.selects "GangColumnsModel" ({ cls := "GangColumnsModel", name := "every", desc := "(IIIIII)I" } : Jvm.MethodName) ({ cls := "GangColumnsModel", name := "every", desc := "(IIIIII)I" } : Jvm.MethodName)) ∈ lw_all := lw_g (lw_at lw_m15 171 rfl) rfl
theorem q3649 : (Jvm.Cond.code ({ cls := "GangColumnsModel", name := "every", desc := "(IIIIII)I" } : Jvm.MethodName) prog_33_method_63_code (10 : Nat) (Option.some Jvm.ClassFile.FieldType.int)) ∈ lw_all := lw_g (lw_at lw_m15 172 rfl) rfl
theorem q3650 : (Jvm.Cond.constantLong "GangColumnsModel" (264 : Nat) (6 : Int64)) ∈ lw_all := lw_g (lw_at lw_m15 173 rfl) rfl
theorem q3651 : (Jvm.Cond.methodLink "GangColumnsLaw" (86 : Nat) ({ cls := "GangColumnsModel", name := "free", desc := "(I)I" } : Jvm.MethodName)) ∈ lw_all := lw_g (lw_at lw_m15 174 rfl) rfl
theorem q3652 : (Jvm.Cond.instanceMethod ({ cls := "GangColumnsModel", name := "free", desc := "(I)I" } : Jvm.MethodName)) ∈ lw_all := lw_g (lw_at lw_m15 175 rfl) rfl
theorem q3653 : (Jvm.Cond.selects "GangColumnsModel" ({ cls := "GangColumnsModel", name := "free", desc := "(I)I" } : Jvm.MethodName) ({ cls := "GangColumnsModel", name := "free", desc := "(I)I" } : Jvm.MethodName)) ∈ lw_all := lw_g (lw_at lw_m15 176 rfl) rfl
theorem q3654 : (Jvm.Cond.code ({ cls := "GangColumnsModel", name := "free", desc := "(I)I" } : Jvm.MethodName) prog_33_method_64_code (3 : Nat) (Option.some Jvm.ClassFile.FieldType.int)) ∈ lw_all := lw_g (lw_at lw_m15 177 rfl) rfl
theorem q3655 : (Jvm.Cond.methodLink "GangColumnsLaw" (90 : Nat) ({ cls := "GangColumnsModel", name := "step", desc := "(I)I" } : Jvm.MethodName)) ∈ lw_all := lw_g (lw_at lw_m15 178 rfl) rfl
theorem q3656 : (Jvm.Cond.instanceMethod ({ cls := "GangColumnsModel", name := "step", desc := "(I)I" } : Jvm.MethodName)) ∈ lw_all := lw_g (lw_at lw_m15 179 rfl) rfl
theorem q3657 : (Jvm.Cond.selects "GangColumnsModel" ({ cls := "GangColumnsModel", name := "step", desc := "(I)I" } : Jvm.MethodName) ({ cls := "GangColumnsModel", name := "step", desc := "(I)I" } : Jvm.MethodName)) ∈ lw_all := lw_g (lw_at lw_m15 180 rfl) rfl
theorem q3658 : (Jvm.Cond.code ({ cls := "GangColumnsModel", name := "step", desc := "(I)I" } : Jvm.MethodName) prog_33_method_72_code (3 : Nat) (Option.some Jvm.ClassFile.FieldType.int)) ∈ lw_all := lw_g (lw_at lw_m15 181 rfl) rfl
theorem q3659 : (Jvm.Cond.constant "GangColumnsModel" (295 : Nat) (99999 : Int32)) ∈ lw_all := lw_g (lw_at lw_m15 182 rfl) rfl
theorem q3660 : (Jvm.Cond.methodLink "GangColumnsModel" (296 : Nat) ({ cls := "GangColumnsModel", name := "ticks", desc := "()V" } : Jvm.MethodName)) ∈ lw_all := lw_g (lw_at lw_m15 183 rfl) rfl
theorem q3661 : (Jvm.Cond.privateMethod ({ cls := "GangColumnsModel", name := "ticks", desc := "()V" } : Jvm.MethodName)) ∈ lw_tbl := lw_at lw_m15 184 rfl
theorem q3662 : (Jvm.Cond.instanceMethod ({ cls := "GangColumnsModel", name := "ticks", desc := "()V" } : Jvm.MethodName)) ∈ lw_all := lw_g (lw_at lw_m15 185 rfl) rfl
theorem q3663 : (Jvm.Cond.code ({ cls := "GangColumnsModel", name := "ticks", desc := "()V" } : Jvm.MethodName) prog_33_method_71_code (4 : Nat) (Option.none : Option Jvm.ClassFile.FieldType)) ∈ lw_all := lw_g (lw_at lw_m15 186 rfl) rfl
theorem q3664 : (Jvm.Cond.methodLink "GangColumnsModel" (284 : Nat) ({ cls := "GangColumnsModel", name := "passes", desc := "()I" } : Jvm.MethodName)) ∈ lw_all := lw_g (lw_at lw_m15 187 rfl) rfl
theorem q3665 : (Jvm.Cond.privateMethod ({ cls := "GangColumnsModel", name := "passes", desc := "()I" } : Jvm.MethodName)) ∈ lw_tbl := lw_at lw_m15 188 rfl
theorem q3666 : (Jvm.Cond.instanceMethod ({ cls := "GangColumnsModel", name := "passes", desc := "()I" } : Jvm.MethodName)) ∈ lw_all := lw_g (lw_at lw_m15 189 rfl) rfl
theorem q3667 : (Jvm.Cond.code ({ cls := "GangColumnsModel", name := "passes", desc := "()I" } : Jvm.MethodName) prog_33_method_68_code (8 : Nat) (Option.some Jvm.ClassFile.FieldType.int)) ∈ lw_all := lw_g (lw_at lw_m15 190 rfl) rfl
theorem q3668 : (Jvm.Cond.methodLink "GangColumnsModel" (272 : Nat) ({ cls := "GangColumnsModel", name := "heldBy", desc := "(I)I" } : Jvm.MethodName)) ∈ lw_all := lw_g (lw_at lw_m15 191 rfl) rfl
theorem q3669 : (Jvm.Cond.privateMethod ({ cls := "GangColumnsModel", name := "heldBy", desc := "(I)I" } : Jvm.MethodName)) ∈ lw_tbl := lw_at lw_m15 192 rfl
theorem q3670 : (Jvm.Cond.instanceMethod ({ cls := "GangColumnsModel", name := "heldBy", desc := "(I)I" } : Jvm.MethodName)) ∈ lw_all := lw_g (lw_at lw_m15 193 rfl) rfl
theorem q3671 : (Jvm.Cond.code ({ cls := "GangColumnsModel", name := "heldBy", desc := "(I)I" } : Jvm.MethodName) prog_33_method_65_code (5 : Nat) (Option.some Jvm.ClassFile.FieldType.int)) ∈ lw_all := lw_g (lw_at lw_m15 194 rfl) rfl
theorem q3672 : (Jvm.Cond.methodLink "GangColumnsModel" (275 : Nat) ({ cls := "GangColumnsModel", name := "takes", desc := "(I)V" } : Jvm.MethodName)) ∈ lw_all := lw_g (lw_at lw_m15 195 rfl) rfl
theorem q3673 : (Jvm.Cond.privateMethod ({ cls := "GangColumnsModel", name := "takes", desc := "(I)V" } : Jvm.MethodName)) ∈ lw_tbl := lw_at lw_m15 196 rfl
theorem q3674 : (Jvm.Cond.instanceMethod ({ cls := "GangColumnsModel", name := "takes", desc := "(I)V" } : Jvm.MethodName)) ∈ lw_all := lw_g (lw_at lw_m15 197 rfl) rfl
theorem q3675 : (Jvm.Cond.code ({ cls := "GangColumnsModel", name := "takes", desc := "(I)V" } : Jvm.MethodName) prog_33_method_24_code (3 : Nat) (Option.none : Option Jvm.ClassFile.FieldType)) ∈ lw_all := lw_g (lw_at lw_m15 198 rfl) rfl
theorem q3676 : (Jvm.Cond.methodLink "GangColumnsModel" (139 : Nat) ({ cls := "GangColumnsModel", name := "fits", desc := "(I)Z" } : Jvm.MethodName)) ∈ lw_all := lw_g (lw_at lw_m15 199 rfl) rfl
theorem q3677 : (Jvm.Cond.privateMethod ({ cls := "GangColumnsModel", name := "fits", desc := "(I)Z" } : Jvm.MethodName)) ∈ lw_tbl := lw_at lw_m15 200 rfl
theorem q3678 : (Jvm.Cond.instanceMethod ({ cls := "GangColumnsModel", name := "fits", desc := "(I)Z" } : Jvm.MethodName)) ∈ lw_all := lw_g (lw_at lw_m15 201 rfl) rfl
theorem q3679 : (Jvm.Cond.code ({ cls := "GangColumnsModel", name := "fits", desc := "(I)Z" } : Jvm.MethodName) prog_33_method_22_code (7 : Nat) (Option.some Jvm.ClassFile.FieldType.boolean)) ∈ lw_all := lw_g (lw_at lw_m15 202 rfl) rfl
theorem q3680 : (Jvm.Cond.methodLink "GangColumnsModel" (128 : Nat) ({ cls := "GangColumnsModel", name := "busy", desc := "(JJI)I" } : Jvm.MethodName)) ∈ lw_all := lw_g (lw_at lw_m15 203 rfl) rfl
theorem q3681 : (Jvm.Cond.privateMethod ({ cls := "GangColumnsModel", name := "busy", desc := "(JJI)I" } : Jvm.MethodName)) ∈ lw_tbl := lw_at lw_m15 204 rfl
theorem q3682 : (Jvm.Cond.instanceMethod ({ cls := "GangColumnsModel", name := "busy", desc := "(JJI)I" } : Jvm.MethodName)) ∈ lw_all := lw_g (lw_at lw_m15 205 rfl) rfl
theorem q3683 : (Jvm.Cond.code ({ cls := "GangColumnsModel", name := "busy", desc := "(JJI)I" } : Jvm.MethodName) prog_33_method_20_code (10 : Nat) (Option.some Jvm.ClassFile.FieldType.int)) ∈ lw_all := lw_g (lw_at lw_m15 206 rfl) rfl
theorem q3684 : (Jvm.Cond.methodLink "GangColumnsModel" (108 : Nat) ({ cls := "GangColumnsModel", name := "promisedBits", desc := "(II)I" } : Jvm.MethodName)) ∈ lw_all := lw_g (lw_at lw_m15 207 rfl) rfl
theorem q3685 : (Jvm.Cond.privateMethod ({ cls := "GangColumnsModel", name := "promisedBits", desc := "(II)I" } : Jvm.MethodName)) ∈ lw_tbl := lw_at lw_m15 208 rfl
theorem q3686 : (Jvm.Cond.instanceMethod ({ cls := "GangColumnsModel", name := "promisedBits", desc := "(II)I" } : Jvm.MethodName)) ∈ lw_all := lw_g (lw_at lw_m15 209 rfl) rfl
theorem q3687 : (Jvm.Cond.code ({ cls := "GangColumnsModel", name := "promisedBits", desc := "(II)I" } : Jvm.MethodName) prog_33_method_16_code (3 : Nat) (Option.some Jvm.ClassFile.FieldType.int)) ∈ lw_all := lw_g (lw_at lw_m15 210 rfl) rfl
theorem q3688 : (Jvm.Cond.methodLink "GangColumnsModel" (132 : Nat) ({ cls := "GangColumnsModel", name := "place", desc := "(II)I" } : Jvm.MethodName)) ∈ lw_all := lw_g (lw_at lw_m15 211 rfl) rfl
theorem q3689 : (Jvm.Cond.static ({ cls := "GangColumnsModel", name := "place", desc := "(II)I" } : Jvm.MethodName)) ∈ lw_all := lw_g (lw_at lw_m15 212 rfl) rfl
theorem q3690 : (Jvm.Cond.code ({ cls := "GangColumnsModel", name := "place", desc := "(II)I" } : Jvm.MethodName) prog_33_method_21_code (6 : Nat) (Option.some Jvm.ClassFile.FieldType.int)) ∈ lw_all := lw_g (lw_at lw_m15 213 rfl) rfl
theorem q3691 : (Jvm.Cond.methodLink "GangColumnsModel" (278 : Nat) ({ cls := "GangColumnsModel", name := "starts", desc := "(I)V" } : Jvm.MethodName)) ∈ lw_all := lw_g (lw_at lw_m15 214 rfl) rfl
theorem q3692 : (Jvm.Cond.privateMethod ({ cls := "GangColumnsModel", name := "starts", desc := "(I)V" } : Jvm.MethodName)) ∈ lw_tbl := lw_at lw_m15 215 rfl
theorem q3693 : (Jvm.Cond.instanceMethod ({ cls := "GangColumnsModel", name := "starts", desc := "(I)V" } : Jvm.MethodName)) ∈ lw_all := lw_g (lw_at lw_m15 216 rfl) rfl
theorem q3694 : (Jvm.Cond.code ({ cls := "GangColumnsModel", name := "starts", desc := "(I)V" } : Jvm.MethodName) prog_33_method_66_code (3 : Nat) (Option.none : Option Jvm.ClassFile.FieldType)) ∈ lw_all := lw_g (lw_at lw_m15 217 rfl) rfl
theorem q3695 : (Jvm.Cond.methodLink "GangColumnsModel" (266 : Nat) ({ cls := "java/lang/Math", name := "min", desc := "(II)I" } : Jvm.MethodName)) ∈ lw_all := lw_g (lw_at lw_m15 218 rfl) rfl
theorem q3696 : (Jvm.Cond.methodLink "GangColumnsModel" (281 : Nat) ({ cls := "GangColumnsModel", name := "promises", desc := "(I)Z" } : Jvm.MethodName)) ∈ lw_all := lw_g (lw_at lw_m15 219 rfl) rfl
theorem q3697 : (Jvm.Cond.privateMethod ({ cls := "GangColumnsModel", name := "promises", desc := "(I)Z" } : Jvm.MethodName)) ∈ lw_tbl := lw_at lw_m15 220 rfl
theorem q3698 : (Jvm.Cond.instanceMethod ({ cls := "GangColumnsModel", name := "promises", desc := "(I)Z" } : Jvm.MethodName)) ∈ lw_all := lw_g (lw_at lw_m15 221 rfl) rfl
theorem q3699 : (Jvm.Cond.code ({ cls := "GangColumnsModel", name := "promises", desc := "(I)Z" } : Jvm.MethodName) prog_33_method_67_code (4 : Nat) (Option.some Jvm.ClassFile.FieldType.boolean)) ∈ lw_all := lw_g (lw_at lw_m15 222 rfl) rfl
theorem q3700 : (Jvm.Cond.methodLink "GangColumnsModel" (269 : Nat) ({ cls := "GangColumnsModel", name := "first", desc := "(I)I" } : Jvm.MethodName)) ∈ lw_all := lw_g (lw_at lw_m15 223 rfl) rfl
theorem q3701 : (Jvm.Cond.privateMethod ({ cls := "GangColumnsModel", name := "first", desc := "(I)I" } : Jvm.MethodName)) ∈ lw_tbl := lw_at lw_m15 224 rfl
theorem q3702 : (Jvm.Cond.instanceMethod ({ cls := "GangColumnsModel", name := "first", desc := "(I)I" } : Jvm.MethodName)) ∈ lw_all := lw_g (lw_at lw_m15 225 rfl) rfl
theorem q3703 : (Jvm.Cond.code ({ cls := "GangColumnsModel", name := "first", desc := "(I)I" } : Jvm.MethodName) prog_33_method_27_code (3 : Nat) (Option.some Jvm.ClassFile.FieldType.int)) ∈ lw_all := lw_g (lw_at lw_m15 226 rfl) rfl
theorem q3704 : (Jvm.Cond.methodLink "GangColumnsModel" (142 : Nat) ({ cls := "GangColumnsModel", name := "change", desc := "(I)I" } : Jvm.MethodName)) ∈ lw_all := lw_g (lw_at lw_m15 227 rfl) rfl
theorem q3705 : (Jvm.Cond.privateMethod ({ cls := "GangColumnsModel", name := "change", desc := "(I)I" } : Jvm.MethodName)) ∈ lw_tbl := lw_at lw_m15 228 rfl
theorem q3706 : (Jvm.Cond.instanceMethod ({ cls := "GangColumnsModel", name := "change", desc := "(I)I" } : Jvm.MethodName)) ∈ lw_all := lw_g (lw_at lw_m15 229 rfl) rfl
theorem q3707 : (Jvm.Cond.code ({ cls := "GangColumnsModel", name := "change", desc := "(I)I" } : Jvm.MethodName) prog_33_method_26_code (6 : Nat) (Option.some Jvm.ClassFile.FieldType.int)) ∈ lw_all := lw_g (lw_at lw_m15 230 rfl) rfl
theorem q3708 : (Jvm.Cond.methodLink "GangColumnsModel" (135 : Nat) ({ cls := "GangColumnsModel", name := "sooner", desc := "(III)I" } : Jvm.MethodName)) ∈ lw_all := lw_g (lw_at lw_m15 231 rfl) rfl
theorem q3709 : (Jvm.Cond.static ({ cls := "GangColumnsModel", name := "sooner", desc := "(III)I" } : Jvm.MethodName)) ∈ lw_all := lw_g (lw_at lw_m15 232 rfl) rfl
theorem q3710 : (Jvm.Cond.code ({ cls := "GangColumnsModel", name := "sooner", desc := "(III)I" } : Jvm.MethodName) prog_33_method_25_code (3 : Nat) (Option.some Jvm.ClassFile.FieldType.int)) ∈ lw_all := lw_g (lw_at lw_m15 233 rfl) rfl
theorem q3711 : (Jvm.Cond.methodLink "GangColumnsModel" (287 : Nat) ({ cls := "GangColumnsModel", name := "holderOf", desc := "(I)I" } : Jvm.MethodName)) ∈ lw_all := lw_g (lw_at lw_m15 234 rfl) rfl
theorem q3712 : (Jvm.Cond.privateMethod ({ cls := "GangColumnsModel", name := "holderOf", desc := "(I)I" } : Jvm.MethodName)) ∈ lw_tbl := lw_at lw_m15 235 rfl
theorem q3713 : (Jvm.Cond.instanceMethod ({ cls := "GangColumnsModel", name := "holderOf", desc := "(I)I" } : Jvm.MethodName)) ∈ lw_all := lw_g (lw_at lw_m15 236 rfl) rfl
theorem q3714 : (Jvm.Cond.code ({ cls := "GangColumnsModel", name := "holderOf", desc := "(I)I" } : Jvm.MethodName) prog_33_method_69_code (4 : Nat) (Option.some Jvm.ClassFile.FieldType.int)) ∈ lw_all := lw_g (lw_at lw_m15 237 rfl) rfl
theorem q3715 : (Jvm.Cond.methodLink "GangColumnsModel" (290 : Nat) ({ cls := "GangColumnsModel", name := "ends", desc := "(I)V" } : Jvm.MethodName)) ∈ lw_all := lw_g (lw_at lw_m15 238 rfl) rfl
theorem q3716 : (Jvm.Cond.privateMethod ({ cls := "GangColumnsModel", name := "ends", desc := "(I)V" } : Jvm.MethodName)) ∈ lw_tbl := lw_at lw_m15 239 rfl
theorem q3717 : (Jvm.Cond.instanceMethod ({ cls := "GangColumnsModel", name := "ends", desc := "(I)V" } : Jvm.MethodName)) ∈ lw_all := lw_g (lw_at lw_m16 0 rfl) rfl
theorem q3718 : (Jvm.Cond.code ({ cls := "GangColumnsModel", name := "ends", desc := "(I)V" } : Jvm.MethodName) prog_33_method_70_code (5 : Nat) (Option.none : Option Jvm.ClassFile.FieldType)) ∈ lw_all := lw_g (lw_at lw_m16 1 rfl) rfl
theorem q3719 : (Jvm.Cond.constantLong "GangColumnsModel" (293 : Nat) (2 : Int64)) ∈ lw_all := lw_g (lw_at lw_m16 2 rfl) rfl
theorem q3720 : (Jvm.Cond.methodLink "GangColumnsLaw" (95 : Nat) ({ cls := "GangColumnsModel", name := "pass", desc := "()I" } : Jvm.MethodName)) ∈ lw_all := lw_g (lw_at lw_m16 3 rfl) rfl
theorem q3721 : (Jvm.Cond.instanceMethod ({ cls := "GangColumnsModel", name := "pass", desc := "()I" } : Jvm.MethodName)) ∈ lw_all := lw_g (lw_at lw_m16 4 rfl) rfl
theorem q3722 : (Jvm.Cond.selects "GangColumnsModel" ({ cls := "GangColumnsModel", name := "pass", desc := "()I" } : Jvm.MethodName) ({ cls := "GangColumnsModel", name := "pass", desc := "()I" } : Jvm.MethodName)) ∈ lw_all := lw_g (lw_at lw_m16 5 rfl) rfl
theorem q3723 : (Jvm.Cond.code ({ cls := "GangColumnsModel", name := "pass", desc := "()I" } : Jvm.MethodName) prog_33_method_73_code (1 : Nat) (Option.some Jvm.ClassFile.FieldType.int)) ∈ lw_all := lw_g (lw_at lw_m16 6 rfl) rfl
theorem q3724 : (Jvm.Cond.methodLink "GangColumnsLaw" (99 : Nat) ({ cls := "GangColumnsModel", name := "holder", desc := "(I)I" } : Jvm.MethodName)) ∈ lw_all := lw_g (lw_at lw_m16 7 rfl) rfl
theorem q3725 : (Jvm.Cond.instanceMethod ({ cls := "GangColumnsModel", name := "holder", desc := "(I)I" } : Jvm.MethodName)) ∈ lw_all := lw_g (lw_at lw_m16 8 rfl) rfl
theorem q3726 : (Jvm.Cond.selects "GangColumnsModel" ({ cls := "GangColumnsModel", name := "holder", desc := "(I)I" } : Jvm.MethodName) ({ cls := "GangColumnsModel", name := "holder", desc := "(I)I" } : Jvm.MethodName)) ∈ lw_all := lw_g (lw_at lw_m16 9 rfl) rfl
theorem q3727 : (Jvm.Cond.code ({ cls := "GangColumnsModel", name := "holder", desc := "(I)I" } : Jvm.MethodName) prog_33_method_75_code (2 : Nat) (Option.some Jvm.ClassFile.FieldType.int)) ∈ lw_all := lw_g (lw_at lw_m16 10 rfl) rfl
theorem q3728 : (Jvm.Cond.methodLink "GangColumnsModel" (299 : Nat) ({ cls := "GangColumnsModel", name := "isColumn", desc := "(I)Z" } : Jvm.MethodName)) ∈ lw_all := lw_g (lw_at lw_m16 11 rfl) rfl
theorem q3729 : (Jvm.Cond.static ({ cls := "GangColumnsModel", name := "isColumn", desc := "(I)Z" } : Jvm.MethodName)) ∈ lw_all := lw_g (lw_at lw_m16 12 rfl) rfl
theorem q3730 : (Jvm.Cond.code ({ cls := "GangColumnsModel", name := "isColumn", desc := "(I)Z" } : Jvm.MethodName) prog_33_method_74_code (1 : Nat) (Option.some Jvm.ClassFile.FieldType.boolean)) ∈ lw_all := lw_g (lw_at lw_m16 13 rfl) rfl
theorem q3731 : (Jvm.Cond.methodLink "GangColumnsLaw" (103 : Nat) ({ cls := "GangColumnsModel", name := "promised", desc := "(II)I" } : Jvm.MethodName)) ∈ lw_all := lw_g (lw_at lw_m16 14 rfl) rfl
theorem q3732 : (Jvm.Cond.instanceMethod ({ cls := "GangColumnsModel", name := "promised", desc := "(II)I" } : Jvm.MethodName)) ∈ lw_all := lw_g (lw_at lw_m16 15 rfl) rfl
theorem q3733 : (Jvm.Cond.selects "GangColumnsModel" ({ cls := "GangColumnsModel", name := "promised", desc := "(II)I" } : Jvm.MethodName) ({ cls := "GangColumnsModel", name := "promised", desc := "(II)I" } : Jvm.MethodName)) ∈ lw_all := lw_g (lw_at lw_m16 16 rfl) rfl
theorem q3734 : (Jvm.Cond.code ({ cls := "GangColumnsModel", name := "promised", desc := "(II)I" } : Jvm.MethodName) prog_33_method_76_code (6 : Nat) (Option.some Jvm.ClassFile.FieldType.int)) ∈ lw_all := lw_g (lw_at lw_m16 17 rfl) rfl
theorem q3735 : (Jvm.Cond.methodLink "GangColumnsLaw" (107 : Nat) ({ cls := "GangColumnsModel", name := "foretell", desc := "(I)I" } : Jvm.MethodName)) ∈ lw_all := lw_g (lw_at lw_m16 18 rfl) rfl
theorem q3736 : (Jvm.Cond.instanceMethod ({ cls := "GangColumnsModel", name := "foretell", desc := "(I)I" } : Jvm.MethodName)) ∈ lw_all := lw_g (lw_at lw_m16 19 rfl) rfl
theorem q3737 : (Jvm.Cond.selects "GangColumnsModel" ({ cls := "GangColumnsModel", name := "foretell", desc := "(I)I" } : Jvm.MethodName) ({ cls := "GangColumnsModel", name := "foretell", desc := "(I)I" } : Jvm.MethodName)) ∈ lw_all := lw_g (lw_at lw_m16 20 rfl) rfl
theorem q3738 : (Jvm.Cond.code ({ cls := "GangColumnsModel", name := "foretell", desc := "(I)I" } : Jvm.MethodName) prog_33_method_80_code (3 : Nat) (Option.some Jvm.ClassFile.FieldType.int)) ∈ lw_all := lw_g (lw_at lw_m16 21 rfl) rfl
theorem q3739 : (Jvm.Cond.methodLink "GangColumnsModel" (306 : Nat) ({ cls := "GangColumnsModel", name := "thinks", desc := "()V" } : Jvm.MethodName)) ∈ lw_all := lw_g (lw_at lw_m16 22 rfl) rfl
theorem q3740 : (Jvm.Cond.privateMethod ({ cls := "GangColumnsModel", name := "thinks", desc := "()V" } : Jvm.MethodName)) ∈ lw_tbl := lw_at lw_m16 23 rfl
theorem q3741 : (Jvm.Cond.instanceMethod ({ cls := "GangColumnsModel", name := "thinks", desc := "()V" } : Jvm.MethodName)) ∈ lw_all := lw_g (lw_at lw_m16 24 rfl) rfl
theorem q3742 : (Jvm.Cond.code ({ cls := "GangColumnsModel", name := "thinks", desc := "()V" } : Jvm.MethodName) prog_33_method_77_code (3 : Nat) (Option.none : Option Jvm.ClassFile.FieldType)) ∈ lw_all := lw_g (lw_at lw_m16 25 rfl) rfl
theorem q3743 : (Jvm.Cond.methodLink "GangColumnsModel" (302 : Nat) ({ cls := "GangColumnsModel", name := "laysSums", desc := "([J[J)V" } : Jvm.MethodName)) ∈ lw_all := lw_g (lw_at lw_m16 26 rfl) rfl
theorem q3744 : (Jvm.Cond.static ({ cls := "GangColumnsModel", name := "laysSums", desc := "([J[J)V" } : Jvm.MethodName)) ∈ lw_all := lw_g (lw_at lw_m16 27 rfl) rfl
theorem q3745 : (Jvm.Cond.code ({ cls := "GangColumnsModel", name := "laysSums", desc := "([J[J)V" } : Jvm.MethodName) prog_33_method_4_code (3 : Nat) (Option.none : Option Jvm.ClassFile.FieldType)) ∈ lw_all := lw_g (lw_at lw_m16 28 rfl) rfl
theorem q3746 : (Jvm.Cond.methodLink "GangColumnsModel" (309 : Nat) ({ cls := "GangColumnsModel", name := "goes", desc := "()V" } : Jvm.MethodName)) ∈ lw_all := lw_g (lw_at lw_m16 29 rfl) rfl
theorem q3747 : (Jvm.Cond.privateMethod ({ cls := "GangColumnsModel", name := "goes", desc := "()V" } : Jvm.MethodName)) ∈ lw_tbl := lw_at lw_m16 30 rfl
theorem q3748 : (Jvm.Cond.instanceMethod ({ cls := "GangColumnsModel", name := "goes", desc := "()V" } : Jvm.MethodName)) ∈ lw_all := lw_g (lw_at lw_m16 31 rfl) rfl
theorem q3749 : (Jvm.Cond.code ({ cls := "GangColumnsModel", name := "goes", desc := "()V" } : Jvm.MethodName) prog_33_method_79_code (2 : Nat) (Option.none : Option Jvm.ClassFile.FieldType)) ∈ lw_all := lw_g (lw_at lw_m16 32 rfl) rfl
theorem q3750 : (Jvm.Cond.methodLink "GangColumnsModel" (312 : Nat) ({ cls := "GangColumnsModel", name := "forgets", desc := "()V" } : Jvm.MethodName)) ∈ lw_all := lw_g (lw_at lw_m16 33 rfl) rfl
theorem q3751 : (Jvm.Cond.privateMethod ({ cls := "GangColumnsModel", name := "forgets", desc := "()V" } : Jvm.MethodName)) ∈ lw_tbl := lw_at lw_m16 34 rfl
theorem q3752 : (Jvm.Cond.instanceMethod ({ cls := "GangColumnsModel", name := "forgets", desc := "()V" } : Jvm.MethodName)) ∈ lw_all := lw_g (lw_at lw_m16 35 rfl) rfl
theorem q3753 : (Jvm.Cond.code ({ cls := "GangColumnsModel", name := "forgets", desc := "()V" } : Jvm.MethodName) prog_33_method_78_code (1 : Nat) (Option.none : Option Jvm.ClassFile.FieldType)) ∈ lw_all := lw_g (lw_at lw_m16 36 rfl) rfl
theorem q3754 : (Jvm.Cond.methodLink "GangColumnsLaw" (111 : Nat) ({ cls := "GangColumnsModel", name := "plan", desc := "(I)I" } : Jvm.MethodName)) ∈ lw_all := lw_g (lw_at lw_m16 37 rfl) rfl
theorem q3755 : (Jvm.Cond.instanceMethod ({ cls := "GangColumnsModel", name := "plan", desc := "(I)I" } : Jvm.MethodName)) ∈ lw_all := lw_g (lw_at lw_m16 38 rfl) rfl
theorem q3756 : (Jvm.Cond.selects "GangColumnsModel" ({ cls := "GangColumnsModel", name := "plan", desc := "(I)I" } : Jvm.MethodName) ({ cls := "GangColumnsModel", name := "plan", desc := "(I)I" } : Jvm.MethodName)) ∈ lw_all := lw_g (lw_at lw_m16 39 rfl) rfl
theorem q3757 : (Jvm.Cond.code ({ cls := "GangColumnsModel", name := "plan", desc := "(I)I" } : Jvm.MethodName) prog_33_method_81_code (5 : Nat) (Option.some Jvm.ClassFile.FieldType.int)) ∈ lw_all := lw_g (lw_at lw_m16 40 rfl) rfl
theorem q3758 : (Jvm.Cond.methodLink "GangColumnsLaw" (115 : Nat) ({ cls := "GangColumnsModel", name := "byRule", desc := "(III)I" } : Jvm.MethodName)) ∈ lw_all := lw_g (lw_at lw_m16 41 rfl) rfl
theorem q3759 : (Jvm.Cond.instanceMethod ({ cls := "GangColumnsModel", name := "byRule", desc := "(III)I" } : Jvm.MethodName)) ∈ lw_all := lw_g (lw_at lw_m16 42 rfl) rfl
theorem q3760 : (Jvm.Cond.selects "GangColumnsModel" ({ cls := "GangColumnsModel", name := "byRule", desc := "(III)I" } : Jvm.MethodName) ({ cls := "GangColumnsModel", name := "byRule", desc := "(III)I" } : Jvm.MethodName)) ∈ lw_all := lw_g (lw_at lw_m16 43 rfl) rfl
theorem q3761 : (Jvm.Cond.code ({ cls := "GangColumnsModel", name := "byRule", desc := "(III)I" } : Jvm.MethodName) prog_33_method_82_code (11 : Nat) (Option.some Jvm.ClassFile.FieldType.int)) ∈ lw_all := lw_g (lw_at lw_m16 44 rfl) rfl
theorem q3762 : (Jvm.Cond.methodLink "GangColumnsLaw" (119 : Nat) ({ cls := "GangColumnsModel", name := "shrunk", desc := "(I)I" } : Jvm.MethodName)) ∈ lw_all := lw_g (lw_at lw_m16 45 rfl) rfl
theorem q3763 : (Jvm.Cond.instanceMethod ({ cls := "GangColumnsModel", name := "shrunk", desc := "(I)I" } : Jvm.MethodName)) ∈ lw_all := lw_g (lw_at lw_m16 46 rfl) rfl
theorem q3764 : (Jvm.Cond.selects "GangColumnsModel" ({ cls := "GangColumnsModel", name := "shrunk", desc := "(I)I" } : Jvm.MethodName) ({ cls := "GangColumnsModel", name := "shrunk", desc := "(I)I" } : Jvm.MethodName)) ∈ lw_all := lw_g (lw_at lw_m16 47 rfl) rfl
theorem q3765 : (Jvm.Cond.code ({ cls := "GangColumnsModel", name := "shrunk", desc := "(I)I" } : Jvm.MethodName) prog_33_method_84_code (5 : Nat) (Option.some Jvm.ClassFile.FieldType.int)) ∈ lw_all := lw_g (lw_at lw_m16 48 rfl) rfl
theorem q3766 : (Jvm.Cond.methodLink "GangColumnsModel" (315 : Nat) ({ cls := "GangColumnsModel", name := "notWaiting", desc := "(I)I" } : Jvm.MethodName)) ∈ lw_all := lw_g (lw_at lw_m16 49 rfl) rfl
theorem q3767 : (Jvm.Cond.privateMethod ({ cls := "GangColumnsModel", name := "notWaiting", desc := "(I)I" } : Jvm.MethodName)) ∈ lw_tbl := lw_at lw_m16 50 rfl
theorem q3768 : (Jvm.Cond.instanceMethod ({ cls := "GangColumnsModel", name := "notWaiting", desc := "(I)I" } : Jvm.MethodName)) ∈ lw_all := lw_g (lw_at lw_m16 51 rfl) rfl
theorem q3769 : (Jvm.Cond.code ({ cls := "GangColumnsModel", name := "notWaiting", desc := "(I)I" } : Jvm.MethodName) prog_33_method_83_code (2 : Nat) (Option.some Jvm.ClassFile.FieldType.int)) ∈ lw_all := lw_g (lw_at lw_m16 52 rfl) rfl
theorem q3770 : (Jvm.Cond.methodLink "GangColumnsLaw" (123 : Nat) ({ cls := "GangColumnsModel", name := "moves", desc := "(I)I" } : Jvm.MethodName)) ∈ lw_all := lw_g (lw_at lw_m16 53 rfl) rfl
theorem q3771 : (Jvm.Cond.instanceMethod ({ cls := "GangColumnsModel", name := "moves", desc := "(I)I" } : Jvm.MethodName)) ∈ lw_all := lw_g (lw_at lw_m16 54 rfl) rfl
theorem q3772 : (Jvm.Cond.selects "GangColumnsModel" ({ cls := "GangColumnsModel", name := "moves", desc := "(I)I" } : Jvm.MethodName) ({ cls := "GangColumnsModel", name := "moves", desc := "(I)I" } : Jvm.MethodName)) ∈ lw_all := lw_g (lw_at lw_m16 55 rfl) rfl
theorem q3773 : (Jvm.Cond.code ({ cls := "GangColumnsModel", name := "moves", desc := "(I)I" } : Jvm.MethodName) prog_33_method_90_code (3 : Nat) (Option.some Jvm.ClassFile.FieldType.int)) ∈ lw_all := lw_g (lw_at lw_m16 56 rfl) rfl
theorem q3774 : (Jvm.Cond.methodLink "GangColumnsModel" (333 : Nat) ({ cls := "GangColumnsModel", name := "fewestMoves", desc := "()I" } : Jvm.MethodName)) ∈ lw_all := lw_g (lw_at lw_m16 57 rfl) rfl
theorem q3775 : (Jvm.Cond.privateMethod ({ cls := "GangColumnsModel", name := "fewestMoves", desc := "()I" } : Jvm.MethodName)) ∈ lw_tbl := lw_at lw_m16 58 rfl
theorem q3776 : (Jvm.Cond.instanceMethod ({ cls := "GangColumnsModel", name := "fewestMoves", desc := "()I" } : Jvm.MethodName)) ∈ lw_all := lw_g (lw_at lw_m16 59 rfl) rfl
theorem q3777 : (Jvm.Cond.code ({ cls := "GangColumnsModel", name := "fewestMoves", desc := "()I" } : Jvm.MethodName) prog_33_method_89_code (4 : Nat) (Option.some Jvm.ClassFile.FieldType.int)) ∈ lw_all := lw_g (lw_at lw_m16 60 rfl) rfl
theorem q3778 : (Jvm.Cond.methodLink "GangColumnsModel" (327 : Nat) ({ cls := "GangColumnsModel", name := "areMoved", desc := "(II)Z" } : Jvm.MethodName)) ∈ lw_all := lw_g (lw_at lw_m16 61 rfl) rfl
theorem q3779 : (Jvm.Cond.privateMethod ({ cls := "GangColumnsModel", name := "areMoved", desc := "(II)Z" } : Jvm.MethodName)) ∈ lw_tbl := lw_at lw_m16 62 rfl
theorem q3780 : (Jvm.Cond.instanceMethod ({ cls := "GangColumnsModel", name := "areMoved", desc := "(II)Z" } : Jvm.MethodName)) ∈ lw_all := lw_g (lw_at lw_m16 63 rfl) rfl
theorem q3781 : (Jvm.Cond.code ({ cls := "GangColumnsModel", name := "areMoved", desc := "(II)Z" } : Jvm.MethodName) prog_33_method_87_code (4 : Nat) (Option.some Jvm.ClassFile.FieldType.boolean)) ∈ lw_all := lw_g (lw_at lw_m16 64 rfl) rfl
theorem q3782 : (Jvm.Cond.methodLink "GangColumnsModel" (324 : Nat) ({ cls := "GangColumnsModel", name := "moved", desc := "()Z" } : Jvm.MethodName)) ∈ lw_all := lw_g (lw_at lw_m16 65 rfl) rfl
theorem q3783 : (Jvm.Cond.privateMethod ({ cls := "GangColumnsModel", name := "moved", desc := "()Z" } : Jvm.MethodName)) ∈ lw_tbl := lw_at lw_m16 66 rfl
theorem q3784 : (Jvm.Cond.instanceMethod ({ cls := "GangColumnsModel", name := "moved", desc := "()Z" } : Jvm.MethodName)) ∈ lw_all := lw_g (lw_at lw_m16 67 rfl) rfl
theorem q3785 : (Jvm.Cond.code ({ cls := "GangColumnsModel", name := "moved", desc := "()Z" } : Jvm.MethodName) prog_33_method_86_code (4 : Nat) (Option.some Jvm.ClassFile.FieldType.boolean)) ∈ lw_all := lw_g (lw_at lw_m16 68 rfl) rfl
theorem q3786 : (Jvm.Cond.methodLink "GangColumnsModel" (318 : Nat) ({ cls := "GangColumnsModel", name := "foundBits", desc := "()I" } : Jvm.MethodName)) ∈ lw_all := lw_g (lw_at lw_m16 69 rfl) rfl
theorem q3787 : (Jvm.Cond.privateMethod ({ cls := "GangColumnsModel", name := "foundBits", desc := "()I" } : Jvm.MethodName)) ∈ lw_tbl := lw_at lw_m16 70 rfl
theorem q3788 : (Jvm.Cond.instanceMethod ({ cls := "GangColumnsModel", name := "foundBits", desc := "()I" } : Jvm.MethodName)) ∈ lw_all := lw_g (lw_at lw_m16 71 rfl) rfl
theorem q3789 : (Jvm.Cond.code ({ cls := "GangColumnsModel", name := "foundBits", desc := "()I" } : Jvm.MethodName) prog_33_method_23_code (3 : Nat) (Option.some Jvm.ClassFile.FieldType.int)) ∈ lw_all := lw_g (lw_at lw_m16 72 rfl) rfl
theorem q3790 : (Jvm.Cond.methodLink "GangColumnsModel" (321 : Nat) ({ cls := "GangColumnsModel", name := "elsewhere", desc := "(II)I" } : Jvm.MethodName)) ∈ lw_all := lw_g (lw_at lw_m16 73 rfl) rfl
theorem q3791 : (Jvm.Cond.privateMethod ({ cls := "GangColumnsModel", name := "elsewhere", desc := "(II)I" } : Jvm.MethodName)) ∈ lw_tbl := lw_at lw_m16 74 rfl
theorem q3792 : (Jvm.Cond.instanceMethod ({ cls := "GangColumnsModel", name := "elsewhere", desc := "(II)I" } : Jvm.MethodName)) ∈ lw_all := lw_g (lw_at lw_m16 75 rfl) rfl
theorem q3793 : (Jvm.Cond.code ({ cls := "GangColumnsModel", name := "elsewhere", desc := "(II)I" } : Jvm.MethodName) prog_33_method_85_code (6 : Nat) (Option.some Jvm.ClassFile.FieldType.int)) ∈ lw_all := lw_g (lw_at lw_m16 76 rfl) rfl
theorem q3794 : (Jvm.Cond.methodLink "GangColumnsModel" (330 : Nat) ({ cls := "GangColumnsModel", name := "isHolding", desc := "(I)Z" } : Jvm.MethodName)) ∈ lw_all := lw_g (lw_at lw_m16 77 rfl) rfl
theorem q3795 : (Jvm.Cond.privateMethod ({ cls := "GangColumnsModel", name := "isHolding", desc := "(I)Z" } : Jvm.MethodName)) ∈ lw_tbl := lw_at lw_m16 78 rfl
theorem q3796 : (Jvm.Cond.instanceMethod ({ cls := "GangColumnsModel", name := "isHolding", desc := "(I)Z" } : Jvm.MethodName)) ∈ lw_all := lw_g (lw_at lw_m16 79 rfl) rfl
theorem q3797 : (Jvm.Cond.code ({ cls := "GangColumnsModel", name := "isHolding", desc := "(I)Z" } : Jvm.MethodName) prog_33_method_88_code (3 : Nat) (Option.some Jvm.ClassFile.FieldType.boolean)) ∈ lw_all := lw_g (lw_at lw_m16 80 rfl) rfl
theorem q3798 : (Jvm.Cond.methodLink "GangColumnsLaw" (127 : Nat) ({ cls := "GangColumnsModel", name := "together", desc := "(II)I" } : Jvm.MethodName)) ∈ lw_all := lw_g (lw_at lw_m16 81 rfl) rfl
theorem q3799 : (Jvm.Cond.instanceMethod ({ cls := "GangColumnsModel", name := "together", desc := "(II)I" } : Jvm.MethodName)) ∈ lw_all := lw_g (lw_at lw_m16 82 rfl) rfl
theorem q3800 : (Jvm.Cond.selects "GangColumnsModel" ({ cls := "GangColumnsModel", name := "together", desc := "(II)I" } : Jvm.MethodName) ({ cls := "GangColumnsModel", name := "together", desc := "(II)I" } : Jvm.MethodName)) ∈ lw_all := lw_g (lw_at lw_m16 83 rfl) rfl
theorem q3801 : (Jvm.Cond.code ({ cls := "GangColumnsModel", name := "together", desc := "(II)I" } : Jvm.MethodName) prog_33_method_92_code (4 : Nat) (Option.some Jvm.ClassFile.FieldType.int)) ∈ lw_all := lw_g (lw_at lw_m16 84 rfl) rfl
theorem q3802 : (Jvm.Cond.methodLink "GangColumnsModel" (336 : Nat) ({ cls := "GangColumnsModel", name := "fitBoth", desc := "(II)Z" } : Jvm.MethodName)) ∈ lw_all := lw_g (lw_at lw_m16 85 rfl) rfl
theorem q3803 : (Jvm.Cond.privateMethod ({ cls := "GangColumnsModel", name := "fitBoth", desc := "(II)Z" } : Jvm.MethodName)) ∈ lw_tbl := lw_at lw_m16 86 rfl
theorem q3804 : (Jvm.Cond.instanceMethod ({ cls := "GangColumnsModel", name := "fitBoth", desc := "(II)Z" } : Jvm.MethodName)) ∈ lw_all := lw_g (lw_at lw_m16 87 rfl) rfl
theorem q3805 : (Jvm.Cond.code ({ cls := "GangColumnsModel", name := "fitBoth", desc := "(II)Z" } : Jvm.MethodName) prog_33_method_91_code (4 : Nat) (Option.some Jvm.ClassFile.FieldType.boolean)) ∈ lw_all := lw_g (lw_at lw_m16 88 rfl) rfl
theorem q3806 : (Jvm.Cond.methodLink "GangColumnsLaw" (131 : Nat) ({ cls := "GangColumnsModel", name := "gap", desc := "(III)I" } : Jvm.MethodName)) ∈ lw_all := lw_g (lw_at lw_m16 89 rfl) rfl
theorem q3807 : (Jvm.Cond.instanceMethod ({ cls := "GangColumnsModel", name := "gap", desc := "(III)I" } : Jvm.MethodName)) ∈ lw_all := lw_g (lw_at lw_m16 90 rfl) rfl
theorem q3808 : (Jvm.Cond.selects "GangColumnsModel" ({ cls := "GangColumnsModel", name := "gap", desc := "(III)I" } : Jvm.MethodName) ({ cls := "GangColumnsModel", name := "gap", desc := "(III)I" } : Jvm.MethodName)) ∈ lw_all := lw_g (lw_at lw_m16 91 rfl) rfl
theorem q3809 : (Jvm.Cond.code ({ cls := "GangColumnsModel", name := "gap", desc := "(III)I" } : Jvm.MethodName) prog_33_method_95_code (8 : Nat) (Option.some Jvm.ClassFile.FieldType.int)) ∈ lw_all := lw_g (lw_at lw_m16 92 rfl) rfl
theorem q3810 : (Jvm.Cond.methodLink "GangColumnsModel" (339 : Nat) ({ cls := "GangColumnsModel", name := "takenTo", desc := "(II)I" } : Jvm.MethodName)) ∈ lw_all := lw_g (lw_at lw_m16 93 rfl) rfl
theorem q3811 : (Jvm.Cond.privateMethod ({ cls := "GangColumnsModel", name := "takenTo", desc := "(II)I" } : Jvm.MethodName)) ∈ lw_tbl := lw_at lw_m16 94 rfl
theorem q3812 : (Jvm.Cond.instanceMethod ({ cls := "GangColumnsModel", name := "takenTo", desc := "(II)I" } : Jvm.MethodName)) ∈ lw_all := lw_g (lw_at lw_m16 95 rfl) rfl
theorem q3813 : (Jvm.Cond.code ({ cls := "GangColumnsModel", name := "takenTo", desc := "(II)I" } : Jvm.MethodName) prog_33_method_93_code (7 : Nat) (Option.some Jvm.ClassFile.FieldType.int)) ∈ lw_all := lw_g (lw_at lw_m16 96 rfl) rfl
theorem q3814 : (Jvm.Cond.methodLink "GangColumnsModel" (342 : Nat) ({ cls := "GangColumnsModel", name := "begins", desc := "(II)I" } : Jvm.MethodName)) ∈ lw_all := lw_g (lw_at lw_m16 97 rfl) rfl
theorem q3815 : (Jvm.Cond.privateMethod ({ cls := "GangColumnsModel", name := "begins", desc := "(II)I" } : Jvm.MethodName)) ∈ lw_tbl := lw_at lw_m16 98 rfl
theorem q3816 : (Jvm.Cond.instanceMethod ({ cls := "GangColumnsModel", name := "begins", desc := "(II)I" } : Jvm.MethodName)) ∈ lw_all := lw_g (lw_at lw_m16 99 rfl) rfl
theorem q3817 : (Jvm.Cond.code ({ cls := "GangColumnsModel", name := "begins", desc := "(II)I" } : Jvm.MethodName) prog_33_method_94_code (6 : Nat) (Option.some Jvm.ClassFile.FieldType.int)) ∈ lw_all := lw_g (lw_at lw_m16 100 rfl) rfl
theorem q3818 : (Jvm.Cond.methodLink "GangColumnsLaw" (135 : Nat) ({ cls := "GangColumnsModel", name := "orders", desc := "(II)I" } : Jvm.MethodName)) ∈ lw_all := lw_g (lw_at lw_m16 101 rfl) rfl
theorem q3819 : (Jvm.Cond.instanceMethod ({ cls := "GangColumnsModel", name := "orders", desc := "(II)I" } : Jvm.MethodName)) ∈ lw_all := lw_g (lw_at lw_m16 102 rfl) rfl
theorem q3820 : (Jvm.Cond.selects "GangColumnsModel" ({ cls := "GangColumnsModel", name := "orders", desc := "(II)I" } : Jvm.MethodName) ({ cls := "GangColumnsModel", name := "orders", desc := "(II)I" } : Jvm.MethodName)) ∈ lw_all := lw_g (lw_at lw_m16 103 rfl) rfl
theorem q3821 : (Jvm.Cond.code ({ cls := "GangColumnsModel", name := "orders", desc := "(II)I" } : Jvm.MethodName) prog_33_method_97_code (4 : Nat) (Option.some Jvm.ClassFile.FieldType.int)) ∈ lw_all := lw_g (lw_at lw_m16 104 rfl) rfl
theorem q3822 : (Jvm.Cond.methodLink "GangColumnsModel" (345 : Nat) ({ cls := "GangColumnsModel", name := "ways", desc := "(III)I" } : Jvm.MethodName)) ∈ lw_all := lw_g (lw_at lw_m16 105 rfl) rfl
theorem q3823 : (Jvm.Cond.privateMethod ({ cls := "GangColumnsModel", name := "ways", desc := "(III)I" } : Jvm.MethodName)) ∈ lw_tbl := lw_at lw_m16 106 rfl
theorem q3824 : (Jvm.Cond.instanceMethod ({ cls := "GangColumnsModel", name := "ways", desc := "(III)I" } : Jvm.MethodName)) ∈ lw_all := lw_g (lw_at lw_m16 107 rfl) rfl
theorem q3825 : (Jvm.Cond.code ({ cls := "GangColumnsModel", name := "ways", desc := "(III)I" } : Jvm.MethodName) prog_33_method_96_code (7 : Nat) (Option.some Jvm.ClassFile.FieldType.int)) ∈ lw_all := lw_g (lw_at lw_m16 108 rfl) rfl
theorem q3826 : (Jvm.Cond.methodLink "GangColumnsLaw" (139 : Nat) ({ cls := "GangColumnsModel", name := "costs", desc := "(III)I" } : Jvm.MethodName)) ∈ lw_all := lw_g (lw_at lw_m16 109 rfl) rfl
theorem q3827 : (Jvm.Cond.instanceMethod ({ cls := "GangColumnsModel", name := "costs", desc := "(III)I" } : Jvm.MethodName)) ∈ lw_all := lw_g (lw_at lw_m16 110 rfl) rfl
theorem q3828 : (Jvm.Cond.selects "GangColumnsModel" ({ cls := "GangColumnsModel", name := "costs", desc := "(III)I" } : Jvm.MethodName) ({ cls := "GangColumnsModel", name := "costs", desc := "(III)I" } : Jvm.MethodName)) ∈ lw_all := lw_g (lw_at lw_m16 111 rfl) rfl
theorem q3829 : (Jvm.Cond.code ({ cls := "GangColumnsModel", name := "costs", desc := "(III)I" } : Jvm.MethodName) prog_33_method_98_code (11 : Nat) (Option.some Jvm.ClassFile.FieldType.int)) ∈ lw_all := lw_g (lw_at lw_m16 112 rfl) rfl
theorem q3830 : (Jvm.Cond.methodLink "GangColumnsLaw" (143 : Nat) ({ cls := "GangColumnsModel", name := "earliest", desc := "(I)I" } : Jvm.MethodName)) ∈ lw_all := lw_g (lw_at lw_m16 113 rfl) rfl
theorem q3831 : (Jvm.Cond.instanceMethod ({ cls := "GangColumnsModel", name := "earliest", desc := "(I)I" } : Jvm.MethodName)) ∈ lw_all := lw_g (lw_at lw_m16 114 rfl) rfl
theorem q3832 : (Jvm.Cond.selects "GangColumnsModel" ({ cls := "GangColumnsModel", name := "earliest", desc := "(I)I" } : Jvm.MethodName) ({ cls := "GangColumnsModel", name := "earliest", desc := "(I)I" } : Jvm.MethodName)) ∈ lw_all := lw_g (lw_at lw_m16 115 rfl) rfl
theorem q3833 : (Jvm.Cond.code ({ cls := "GangColumnsModel", name := "earliest", desc := "(I)I" } : Jvm.MethodName) prog_33_method_99_code (3 : Nat) (Option.some Jvm.ClassFile.FieldType.int)) ∈ lw_all := lw_g (lw_at lw_m16 116 rfl) rfl
theorem q3834 : (Jvm.Cond.methodLink "GangColumnsLaw" (147 : Nat) ({ cls := "GangColumnsModel", name := "holes", desc := "(III)I" } : Jvm.MethodName)) ∈ lw_all := lw_g (lw_at lw_m16 117 rfl) rfl
theorem q3835 : (Jvm.Cond.instanceMethod ({ cls := "GangColumnsModel", name := "holes", desc := "(III)I" } : Jvm.MethodName)) ∈ lw_all := lw_g (lw_at lw_m16 118 rfl) rfl
theorem q3836 : (Jvm.Cond.selects "GangColumnsModel" ({ cls := "GangColumnsModel", name := "holes", desc := "(III)I" } : Jvm.MethodName) ({ cls := "GangColumnsModel", name := "holes", desc := "(III)I" } : Jvm.MethodName)) ∈ lw_all := lw_g (lw_at lw_m16 119 rfl) rfl
theorem q3837 : (Jvm.Cond.code ({ cls := "GangColumnsModel", name := "holes", desc := "(III)I" } : Jvm.MethodName) prog_33_method_100_code (10 : Nat) (Option.some Jvm.ClassFile.FieldType.int)) ∈ lw_all := lw_g (lw_at lw_m16 120 rfl) rfl
theorem q3838 : (Jvm.Cond.constantLong "GangColumnsModel" (348 : Nat) (500 : Int64)) ∈ lw_all := lw_g (lw_at lw_m16 121 rfl) rfl
theorem q3839 : (Jvm.Cond.methodLink "GangColumnsLaw" (151 : Nat) ({ cls := "GangColumnsModel", name := "led", desc := "(I)J" } : Jvm.MethodName)) ∈ lw_all := lw_g (lw_at lw_m16 122 rfl) rfl
theorem q3840 : (Jvm.Cond.instanceMethod ({ cls := "GangColumnsModel", name := "led", desc := "(I)J" } : Jvm.MethodName)) ∈ lw_all := lw_g (lw_at lw_m16 123 rfl) rfl
theorem q3841 : (Jvm.Cond.selects "GangColumnsModel" ({ cls := "GangColumnsModel", name := "led", desc := "(I)J" } : Jvm.MethodName) ({ cls := "GangColumnsModel", name := "led", desc := "(I)J" } : Jvm.MethodName)) ∈ lw_all := lw_g (lw_at lw_m16 124 rfl) rfl
theorem q3842 : (Jvm.Cond.code ({ cls := "GangColumnsModel", name := "led", desc := "(I)J" } : Jvm.MethodName) prog_33_method_101_code (2 : Nat) (Option.some Jvm.ClassFile.FieldType.long)) ∈ lw_all := lw_g (lw_at lw_m16 125 rfl) rfl
theorem q3843 : (Jvm.Cond.methodLink "GangColumnsLaw" (155 : Nat) ({ cls := "GangColumnsModel", name := "chart", desc := "(II)I" } : Jvm.MethodName)) ∈ lw_all := lw_g (lw_at lw_m16 126 rfl) rfl
theorem q3844 : (Jvm.Cond.instanceMethod ({ cls := "GangColumnsModel", name := "chart", desc := "(II)I" } : Jvm.MethodName)) ∈ lw_all := lw_g (lw_at lw_m16 127 rfl) rfl
theorem q3845 : (Jvm.Cond.selects "GangColumnsModel" ({ cls := "GangColumnsModel", name := "chart", desc := "(II)I" } : Jvm.MethodName) ({ cls := "GangColumnsModel", name := "chart", desc := "(II)I" } : Jvm.MethodName)) ∈ lw_all := lw_g (lw_at lw_m16 128 rfl) rfl
theorem q3846 : (Jvm.Cond.code ({ cls := "GangColumnsModel", name := "chart", desc := "(II)I" } : Jvm.MethodName) prog_33_method_102_code (4 : Nat) (Option.some Jvm.ClassFile.FieldType.int)) ∈ lw_all := lw_g (lw_at lw_m16 129 rfl) rfl
theorem q3847 : (Jvm.Cond.constantLong "GangColumnsModel" (350 : Nat) (64 : Int64)) ∈ lw_all := lw_g (lw_at lw_m16 130 rfl) rfl
theorem q3848 : (Jvm.Cond.methodLink "GangColumnsLaw" (159 : Nat) ({ cls := "GangColumnsModel", name := "event", desc := "(II)I" } : Jvm.MethodName)) ∈ lw_all := lw_g (lw_at lw_m16 131 rfl) rfl
theorem q3849 : (Jvm.Cond.instanceMethod ({ cls := "GangColumnsModel", name := "event", desc := "(II)I" } : Jvm.MethodName)) ∈ lw_all := lw_g (lw_at lw_m16 132 rfl) rfl
theorem q3850 : (Jvm.Cond.selects "GangColumnsModel" ({ cls := "GangColumnsModel", name := "event", desc := "(II)I" } : Jvm.MethodName) ({ cls := "GangColumnsModel", name := "event", desc := "(II)I" } : Jvm.MethodName)) ∈ lw_all := lw_g (lw_at lw_m16 133 rfl) rfl
theorem q3851 : (Jvm.Cond.code ({ cls := "GangColumnsModel", name := "event", desc := "(II)I" } : Jvm.MethodName) prog_33_method_103_code (3 : Nat) (Option.some Jvm.ClassFile.FieldType.int)) ∈ lw_all := lw_g (lw_at lw_m16 134 rfl) rfl
theorem q3852 : (Jvm.Cond.methodLink "GangColumnsLaw" (163 : Nat) ({ cls := "GangColumnsModel", name := "started", desc := "(I)I" } : Jvm.MethodName)) ∈ lw_all := lw_g (lw_at lw_m16 135 rfl) rfl
theorem q3853 : (Jvm.Cond.instanceMethod ({ cls := "GangColumnsModel", name := "started", desc := "(I)I" } : Jvm.MethodName)) ∈ lw_all := lw_g (lw_at lw_m16 136 rfl) rfl
theorem q3854 : (Jvm.Cond.selects "GangColumnsModel" ({ cls := "GangColumnsModel", name := "started", desc := "(I)I" } : Jvm.MethodName) ({ cls := "GangColumnsModel", name := "started", desc := "(I)I" } : Jvm.MethodName)) ∈ lw_all := lw_g (lw_at lw_m16 137 rfl) rfl
theorem q3855 : (Jvm.Cond.code ({ cls := "GangColumnsModel", name := "started", desc := "(I)I" } : Jvm.MethodName) prog_33_method_104_code (2 : Nat) (Option.some Jvm.ClassFile.FieldType.int)) ∈ lw_all := lw_g (lw_at lw_m16 138 rfl) rfl
theorem q3856 : (Jvm.Cond.methodLink "GangColumnsLaw" (167 : Nat) ({ cls := "GangColumnsModel", name := "image", desc := "()I" } : Jvm.MethodName)) ∈ lw_all := lw_g (lw_at lw_m16 139 rfl) rfl
theorem q3857 : (Jvm.Cond.instanceMethod ({ cls := "GangColumnsModel", name := "image", desc := "()I" } : Jvm.MethodName)) ∈ lw_all := lw_g (lw_at lw_m16 140 rfl) rfl
theorem q3858 : (Jvm.Cond.selects "GangColumnsModel" ({ cls := "GangColumnsModel", name := "image", desc := "()I" } : Jvm.MethodName) ({ cls := "GangColumnsModel", name := "image", desc := "()I" } : Jvm.MethodName)) ∈ lw_all := lw_g (lw_at lw_m16 141 rfl) rfl
theorem q3859 : (Jvm.Cond.code ({ cls := "GangColumnsModel", name := "image", desc := "()I" } : Jvm.MethodName) prog_33_method_105_code (1 : Nat) (Option.some Jvm.ClassFile.FieldType.int)) ∈ lw_all := lw_g (lw_at lw_m16 142 rfl) rfl
theorem q3860 : (Jvm.Cond.methodLink "GangColumnsLaw" (171 : Nat) ({ cls := "GangColumnsModel", name := "back", desc := "()I" } : Jvm.MethodName)) ∈ lw_all := lw_g (lw_at lw_m16 143 rfl) rfl
theorem q3861 : (Jvm.Cond.instanceMethod ({ cls := "GangColumnsModel", name := "back", desc := "()I" } : Jvm.MethodName)) ∈ lw_all := lw_g (lw_at lw_m16 144 rfl) rfl
theorem q3862 : (Jvm.Cond.selects "GangColumnsModel" ({ cls := "GangColumnsModel", name := "back", desc := "()I" } : Jvm.MethodName) ({ cls := "GangColumnsModel", name := "back", desc := "()I" } : Jvm.MethodName)) ∈ lw_all := lw_g (lw_at lw_m16 145 rfl) rfl
theorem q3863 : (Jvm.Cond.code ({ cls := "GangColumnsModel", name := "back", desc := "()I" } : Jvm.MethodName) prog_33_method_106_code (1 : Nat) (Option.some Jvm.ClassFile.FieldType.int)) ∈ lw_all := lw_g (lw_at lw_m16 146 rfl) rfl
theorem q3864 : (Jvm.Cond.methodLink "GangColumnsLaw" (175 : Nat) ({ cls := "GangColumnsModel", name := "count", desc := "(I)I" } : Jvm.MethodName)) ∈ lw_all := lw_g (lw_at lw_m16 147 rfl) rfl
theorem q3865 : (Jvm.Cond.instanceMethod ({ cls := "GangColumnsModel", name := "count", desc := "(I)I" } : Jvm.MethodName)) ∈ lw_all := lw_g (lw_at lw_m16 148 rfl) rfl
theorem q3866 : (Jvm.Cond.selects "GangColumnsModel" ({ cls := "GangColumnsModel", name := "count", desc := "(I)I" } : Jvm.MethodName) ({ cls := "GangColumnsModel", name := "count", desc := "(I)I" } : Jvm.MethodName)) ∈ lw_all := lw_g (lw_at lw_m16 149 rfl) rfl
theorem q3867 : (Jvm.Cond.code ({ cls := "GangColumnsModel", name := "count", desc := "(I)I" } : Jvm.MethodName) prog_33_method_108_code (4 : Nat) (Option.some Jvm.ClassFile.FieldType.int)) ∈ lw_all := lw_g (lw_at lw_m16 150 rfl) rfl
theorem q3868 : (Jvm.Cond.methodLink "GangColumnsModel" (352 : Nat) ({ cls := "GangColumnsModel", name := "ofThese", desc := "(I)I" } : Jvm.MethodName)) ∈ lw_all := lw_g (lw_at lw_m16 151 rfl) rfl
theorem q3869 : (Jvm.Cond.privateMethod ({ cls := "GangColumnsModel", name := "ofThese", desc := "(I)I" } : Jvm.MethodName)) ∈ lw_tbl := lw_at lw_m16 152 rfl
theorem q3870 : (Jvm.Cond.instanceMethod ({ cls := "GangColumnsModel", name := "ofThese", desc := "(I)I" } : Jvm.MethodName)) ∈ lw_all := lw_g (lw_at lw_m16 153 rfl) rfl
theorem q3871 : (Jvm.Cond.code ({ cls := "GangColumnsModel", name := "ofThese", desc := "(I)I" } : Jvm.MethodName) prog_33_method_107_code (4 : Nat) (Option.some Jvm.ClassFile.FieldType.int)) ∈ lw_all := lw_g (lw_at lw_m16 154 rfl) rfl
theorem q3872 : (Jvm.Cond.sameMethod "java/lang/AbstractStringBuilder" "java/lang/AbstractStringBuilder" "compareTo" "(Ljava/lang/AbstractStringBuilder;)I") ∈ lw_all := lw_g (lw_at lw_m16 155 rfl) rfl
theorem q3873 : (Jvm.Cond.sameMethod "java/lang/Throwable" "java/lang/Throwable" "fillInStackTrace" "(I)Ljava/lang/Throwable;") ∈ lw_all := lw_g (lw_at lw_m16 156 rfl) rfl
theorem q3874 : (Jvm.Cond.selects "java/util/TreeSet" ({ cls := "java/util/TreeSet", name := "iterator", desc := "()Ljava/util/Iterator;" } : Jvm.MethodName) ({ cls := "java/util/TreeSet", name := "iterator", desc := "()Ljava/util/Iterator;" } : Jvm.MethodName)) ∈ lw_all := lw_g (lw_at lw_m16 157 rfl) rfl
theorem q3875 : (Jvm.Cond.selects "java/util/PriorityQueue" ({ cls := "java/util/PriorityQueue", name := "iterator", desc := "()Ljava/util/Iterator;" } : Jvm.MethodName) ({ cls := "java/util/PriorityQueue", name := "iterator", desc := "()Ljava/util/Iterator;" } : Jvm.MethodName)) ∈ lw_all := lw_g (lw_at lw_m16 158 rfl) rfl
theorem q3876 : (Jvm.Cond.selects "java/util/ArrayList" ({ cls := "java/util/ArrayList", name := "iterator", desc := "()Ljava/util/Iterator;" } : Jvm.MethodName) ({ cls := "java/util/ArrayList", name := "iterator", desc := "()Ljava/util/Iterator;" } : Jvm.MethodName)) ∈ lw_all := lw_g (lw_at lw_m16 159 rfl) rfl
theorem q3877 : (Jvm.Cond.sameMethod "java/lang/AbstractStringBuilder" "java/lang/AbstractStringBuilder" "append" "(I)Ljava/lang/AbstractStringBuilder;") ∈ lw_all := lw_g (lw_at lw_m16 160 rfl) rfl
theorem q3878 : (Jvm.Cond.sameMethod "java/lang/AbstractStringBuilder" "java/lang/AbstractStringBuilder" "ensureCapacityInternal" "(I)V") ∈ lw_all := lw_g (lw_at lw_m16 161 rfl) rfl
theorem q3879 : (Jvm.Cond.sameMethod "java/lang/AbstractStringBuilder" "java/lang/AbstractStringBuilder" "newCapacity" "(I)I") ∈ lw_all := lw_g (lw_at lw_m16 162 rfl) rfl
theorem q3880 : (Jvm.Cond.sameMethod "java/lang/AbstractStringBuilder" "java/lang/AbstractStringBuilder" "append" "(Ljava/lang/String;)Ljava/lang/AbstractStringBuilder;") ∈ lw_all := lw_g (lw_at lw_m16 163 rfl) rfl
theorem q3881 : (Jvm.Cond.sameMethod "java/lang/AbstractStringBuilder" "java/lang/AbstractStringBuilder" "appendNull" "()Ljava/lang/AbstractStringBuilder;") ∈ lw_all := lw_g (lw_at lw_m16 164 rfl) rfl
theorem q3882 : (Jvm.Cond.sameMethod "java/lang/AbstractStringBuilder" "java/lang/AbstractStringBuilder" "putStringAt" "(ILjava/lang/String;)V") ∈ lw_all := lw_g (lw_at lw_m16 165 rfl) rfl
theorem q3883 : (Jvm.Cond.sameMethod "java/lang/AbstractStringBuilder" "java/lang/AbstractStringBuilder" "inflateIfNeededFor" "(Ljava/lang/String;)V") ∈ lw_all := lw_g (lw_at lw_m16 166 rfl) rfl
theorem q3884 : (Jvm.Cond.sameMethod "java/lang/AbstractStringBuilder" "java/lang/AbstractStringBuilder" "inflate" "()V") ∈ lw_all := lw_g (lw_at lw_m16 167 rfl) rfl
theorem q3885 : (Jvm.Cond.sameMethod "java/lang/AbstractStringBuilder" "java/lang/AbstractStringBuilder" "append" "(C)Ljava/lang/AbstractStringBuilder;") ∈ lw_all := lw_g (lw_at lw_m16 168 rfl) rfl
theorem q3886 : (Jvm.Cond.selects "java/util/TreeMap" ({ cls := "java/util/TreeMap", name := "size", desc := "()I" } : Jvm.MethodName) ({ cls := "java/util/TreeMap", name := "size", desc := "()I" } : Jvm.MethodName)) ∈ lw_all := lw_g (lw_at lw_m16 169 rfl) rfl
theorem q3887 : (Jvm.Cond.sameMethod "java/util/AbstractMap" "java/util/AbstractMap" "putAll" "(Ljava/util/Map;)V") ∈ lw_all := lw_g (lw_at lw_m16 170 rfl) rfl
theorem q3888 : (Jvm.Cond.selects "GangColumns$FreeRuns" ({ cls := "GangColumns$FreeRuns", name := "iterator", desc := "()Ljava/util/Iterator;" } : Jvm.MethodName) ({ cls := "GangColumns$FreeRuns", name := "iterator", desc := "()Ljava/util/Iterator;" } : Jvm.MethodName)) ∈ lw_all := lw_g (lw_at lw_m16 171 rfl) rfl
theorem q3889 : (Jvm.Cond.selects "java/util/TreeMap" ({ cls := "java/util/TreeMap", name := "comparator", desc := "()Ljava/util/Comparator;" } : Jvm.MethodName) ({ cls := "java/util/TreeMap", name := "comparator", desc := "()Ljava/util/Comparator;" } : Jvm.MethodName)) ∈ lw_all := lw_g (lw_at lw_m16 172 rfl) rfl
theorem q3890 : (Jvm.Cond.initialized "java/lang/Object") ∈ lw_all := lw_g (lw_at lw_m16 173 rfl) rfl
theorem q3891 : (Jvm.Cond.castable "GangColumns$Kept" "GangColumns$Hold") ∈ lw_tbl := lw_at lw_m16 174 rfl
theorem q3892 : (Jvm.Cond.castable "GangColumns$Promised" "GangColumns$Hold") ∈ lw_tbl := lw_at lw_m16 175 rfl
theorem q3893 : (Jvm.Cond.castable "GangColumns$Runs" "GangColumns$Hold") ∈ lw_tbl := lw_at lw_m16 176 rfl
theorem q3894 : (Jvm.Cond.castable "GangColumns$Column" "java/lang/Object") ∈ lw_tbl := lw_at lw_m16 177 rfl
theorem q3895 : (Jvm.Cond.castable "GangColumns$Job" "java/lang/Object") ∈ lw_tbl := lw_at lw_m16 178 rfl
theorem q3896 : (Jvm.Cond.castable "GangColumns$Arm" "java/lang/Object") ∈ lw_tbl := lw_at lw_m16 179 rfl
theorem q3897 : (Jvm.Cond.castable "GangColumns" "java/lang/Object") ∈ lw_tbl := lw_at lw_m16 180 rfl
theorem q3898 : (Jvm.Cond.castable "GangColumns$Cluster" "java/lang/Object") ∈ lw_tbl := lw_at lw_m16 181 rfl
theorem q3899 : (Jvm.Cond.castable "java/util/ArrayList" "java/lang/Object") ∈ lw_tbl := lw_at lw_m16 182 rfl
theorem q3900 : (Jvm.Cond.castable "java/util/TreeMap" "java/lang/Object") ∈ lw_tbl := lw_at lw_m16 183 rfl
theorem q3901 : (Jvm.Cond.castable "java/util/PriorityQueue" "java/lang/Object") ∈ lw_tbl := lw_at lw_m16 184 rfl
theorem q3902 : (Jvm.Cond.castable "GangColumns$ByEnd" "java/lang/Object") ∈ lw_tbl := lw_at lw_m16 185 rfl
theorem q3903 : (Jvm.Cond.castable "GangColumns$Promises" "java/lang/Object") ∈ lw_tbl := lw_at lw_m16 186 rfl
theorem q3904 : (Jvm.Cond.castable "GangColumns$Cluster$InLine" "java/lang/Object") ∈ lw_tbl := lw_at lw_m16 187 rfl
theorem q3905 : (Jvm.Cond.castable "GangColumnsModel" "java/lang/Object") ∈ lw_tbl := lw_at lw_m16 188 rfl
theorem q3906 : (Jvm.Cond.castable "GangColumns$Share" "java/lang/Object") ∈ lw_tbl := lw_at lw_m16 189 rfl
theorem q3907 : (Jvm.Cond.castable "java/lang/Integer" "java/lang/Object") ∈ lw_tbl := lw_at lw_m16 190 rfl
theorem q3908 : (Jvm.Cond.castable "java/util/TreeMap$Entry" "java/lang/Object") ∈ lw_tbl := lw_at lw_m16 191 rfl
theorem q3909 : (Jvm.Cond.castable "java/util/TreeMap$Values" "java/lang/Object") ∈ lw_tbl := lw_at lw_m16 192 rfl
theorem q3910 : (Jvm.Cond.castable "java/util/ArrayList$Itr" "java/lang/Object") ∈ lw_tbl := lw_at lw_m16 193 rfl
theorem q3911 : (Jvm.Cond.castable "java/util/PriorityQueue$Itr" "java/lang/Object") ∈ lw_tbl := lw_at lw_m16 194 rfl
theorem q3912 : (Jvm.Cond.castable "java/util/TreeMap$ValueIterator" "java/lang/Object") ∈ lw_tbl := lw_at lw_m16 195 rfl
theorem q3913 : (Jvm.Cond.castable "GangColumns$ArmsReader" "java/lang/Object") ∈ lw_tbl := lw_at lw_m16 196 rfl
theorem q3914 : (Jvm.Cond.castable "GangColumns$Fault" "java/lang/Object") ∈ lw_tbl := lw_at lw_m16 197 rfl
theorem q3915 : (Jvm.Cond.castable "java/util/TreeSet" "java/lang/Object") ∈ lw_tbl := lw_at lw_m16 198 rfl
theorem q3916 : (Jvm.Cond.castable "GangColumns$ByWidth" "java/lang/Object") ∈ lw_tbl := lw_at lw_m16 199 rfl
theorem q3917 : (Jvm.Cond.castable "java/util/TreeMap$KeySet" "java/lang/Object") ∈ lw_tbl := lw_at lw_m16 200 rfl
theorem q3918 : (Jvm.Cond.castable "java/util/TreeMap$KeyIterator" "java/lang/Object") ∈ lw_tbl := lw_at lw_m16 201 rfl
theorem q3919 : (Jvm.Cond.castable "GangColumns$Event" "java/lang/Object") ∈ lw_tbl := lw_at lw_m16 202 rfl
theorem q3920 : (Jvm.Cond.castable "GangColumns$1" "java/lang/Object") ∈ lw_tbl := lw_at lw_m16 203 rfl
theorem q3921 : (Jvm.Cond.castable "GangColumns$1Holds" "java/lang/Object") ∈ lw_tbl := lw_at lw_m16 204 rfl
theorem q3922 : (Jvm.Cond.castable "java/lang/StringBuilder" "java/lang/Object") ∈ lw_tbl := lw_at lw_m16 205 rfl
theorem q3923 : (Jvm.Cond.castable "java/lang/String" "java/lang/Object") ∈ lw_tbl := lw_at lw_m16 206 rfl
theorem q3924 : (Jvm.Cond.castable "GangColumns$Span" "java/lang/Object") ∈ lw_tbl := lw_at lw_m16 207 rfl
theorem q3925 : (Jvm.Cond.castable "GangColumns$Kept" "java/lang/Object") ∈ lw_tbl := lw_at lw_m16 208 rfl
theorem q3926 : (Jvm.Cond.castable "jdk/internal/misc/Unsafe" "java/lang/Object") ∈ lw_tbl := lw_at lw_m16 209 rfl
theorem q3927 : (Jvm.Cond.castable "GangColumns$Going" "java/lang/Object") ∈ lw_tbl := lw_at lw_m16 210 rfl
theorem q3928 : (Jvm.Cond.castable "GangColumns$Runs" "java/lang/Object") ∈ lw_tbl := lw_at lw_m16 211 rfl
theorem q3929 : (Jvm.Cond.castable "GangColumns$Promised" "java/lang/Object") ∈ lw_tbl := lw_at lw_m16 212 rfl
theorem q3930 : (Jvm.Cond.castable "java/util/TreeMap$EntrySet" "java/lang/Object") ∈ lw_tbl := lw_at lw_m16 213 rfl
theorem q3931 : (Jvm.Cond.castable "java/util/TreeMap$EntryIterator" "java/lang/Object") ∈ lw_tbl := lw_at lw_m16 214 rfl
theorem q3932 : (Jvm.Cond.castable "GangColumns$Foresight" "java/lang/Object") ∈ lw_tbl := lw_at lw_m16 215 rfl
theorem q3933 : (Jvm.Cond.castable "GangColumns$Orders" "java/lang/Object") ∈ lw_tbl := lw_at lw_m16 216 rfl
theorem q3934 : (Jvm.Cond.castable "GangColumns$Moves" "java/lang/Object") ∈ lw_tbl := lw_at lw_m16 217 rfl
theorem q3935 : (Jvm.Cond.castable "GangColumns$FreeRuns" "java/lang/Object") ∈ lw_tbl := lw_at lw_m16 218 rfl
theorem q3936 : (Jvm.Cond.castable "GangColumns$FreeRuns$1" "java/lang/Object") ∈ lw_tbl := lw_at lw_m16 219 rfl
theorem q3937 : (Jvm.Cond.castable "GangColumns$Run" "java/lang/Object") ∈ lw_tbl := lw_at lw_m16 220 rfl
theorem q3938 : (Jvm.Cond.castable "GangColumns$WidestGoing" "java/lang/Object") ∈ lw_tbl := lw_at lw_m16 221 rfl
theorem q3939 : (Jvm.Cond.castable "java/lang/Throwable" "java/lang/Object") ∈ lw_tbl := lw_at lw_m16 222 rfl
theorem q3940 : (Jvm.Cond.sameMethod "[Ljava/lang/Object;" "java/lang/Object" "getClass" "()Ljava/lang/Class;") ∈ lw_all := lw_g (lw_at lw_m16 223 rfl) rfl
theorem q3941 : (Jvm.Cond.selects "[Ljava/lang/Object;" ({ cls := "java/lang/Object", name := "getClass", desc := "()Ljava/lang/Class;" } : Jvm.MethodName) ({ cls := "java/lang/Object", name := "getClass", desc := "()Ljava/lang/Class;" } : Jvm.MethodName)) ∈ lw_all := lw_g (lw_at lw_m16 224 rfl) rfl
theorem q3942 : (Jvm.Cond.declares ({ cls := "java/lang/Object", name := "getClass", desc := "()Ljava/lang/Class;" } : Jvm.MethodName)) ∈ lw_tbl := lw_at lw_m16 225 rfl
theorem q3943 : (Jvm.Cond.castable "[LGangColumns$Column;" "java/lang/Object") ∈ lw_tbl := lw_at lw_m16 226 rfl
theorem q3944 : (Jvm.Cond.castable "[[I" "java/lang/Object") ∈ lw_tbl := lw_at lw_m16 227 rfl
theorem q3945 : (Jvm.Cond.castable "[B" "java/lang/Object") ∈ lw_tbl := lw_at lw_m16 228 rfl
theorem q3946 : (Jvm.Cond.castable "[I" "java/lang/Object") ∈ lw_tbl := lw_at lw_m16 229 rfl
theorem q3947 : (Jvm.Cond.castable "[J" "java/lang/Object") ∈ lw_tbl := lw_at lw_m16 230 rfl
theorem q3948 : (Jvm.Cond.castable "[Ljava/lang/Object;" "java/lang/Object") ∈ lw_tbl := lw_at lw_m16 231 rfl
theorem q3949 : (Jvm.Cond.castable "[LGangColumns$Job;" "java/lang/Object") ∈ lw_tbl := lw_at lw_m16 232 rfl
theorem q3950 : (Jvm.Cond.castable "[Z" "java/lang/Object") ∈ lw_tbl := lw_at lw_m16 233 rfl
theorem q3951 : (Jvm.Cond.castable "[LGangColumns$Arm;" "java/lang/Object") ∈ lw_tbl := lw_at lw_m16 234 rfl
theorem q3952 : (Jvm.Cond.fieldLink "java/util/ArrayDeque" (24 : Nat) "java/util/ArrayDeque" "head" "I") ∈ lw_all := lw_g (lw_at lw_m16 235 rfl) rfl
theorem q3953 : (Jvm.Cond.fieldLink "java/util/ArrayDeque" (20 : Nat) "java/util/ArrayDeque" "tail" "I") ∈ lw_all := lw_g (lw_at lw_m16 236 rfl) rfl
theorem q3954 : (Jvm.Cond.fieldLink "java/util/ArrayDeque" (3 : Nat) "java/util/ArrayDeque" "elements" "[Ljava/lang/Object;") ∈ lw_all := lw_g (lw_at lw_m16 237 rfl) rfl
theorem q3955 : (Jvm.Cond.instantiable "java/lang/Object" (0 : Nat)) ∈ lw_all := lw_g (lw_at lw_m16 238 rfl) rfl
